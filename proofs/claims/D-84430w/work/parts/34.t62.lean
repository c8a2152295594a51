section T62_qe
/-! Q's e's: what waits, as lists -/
/-- signs that wait, the latest first -/
def stS (M : mm_) : List (Int × Int) → Prop
  | [] => True
  | x :: t => M 229 (t.length : Int) = x.1 ∧ M 230 (t.length : Int) = x.2 ∧ stS M t
/-- operands that wait: sort, place, whether bad -/
def stW (M : mm_) : List (Int × Int × Int) → Prop
  | [] => True
  | x :: t => M 231 (t.length : Int) = x.1 ∧ M 232 (t.length : Int) = x.2.1 ∧ M 233 (t.length : Int) = x.2.2 ∧ stW M t
/-- comparisons in the brackets that are open -/
def stC (M : mm_) : List Int → Prop
  | [] => True
  | x :: t => M 234 (t.length : Int) = x ∧ stC M t
/-- forms from a place on, the latest first -/
def stF (M : mm_) (f : Int) : List (Int × Int) → Prop
  | [] => True
  | x :: t => M 227 (f + t.length) = x.1 ∧ M 228 (f + t.length) = x.2 ∧ stF M f t
def QE (M : mm_) (sg : List (Int × Int)) (ws : List (Int × Int × Int)) (cm : List Int) (f : Int) (fm : List (Int × Int)) : Prop :=
  M 6 112 = sg.length ∧ stS M sg ∧ M 6 116 = ws.length ∧ stW M ws ∧ M 6 118 + 1 = cm.length ∧ stC M cm ∧ M 6 104 = f + fm.length ∧ stF M f fm
theorem stS_c {M M' : mm_} : ∀ (l : List (Int × Int)), (∀ i : Int, 0 ≤ i → i < l.length → M' 229 i = M 229 i ∧ M' 230 i = M 230 i) → stS M l → stS M' l
  | [], _, _ => trivial
  | x :: t, h, hs => by
    have h1 := h t.length (by omega) (by simp only [List.length_cons]; omega)
    exact ⟨h1.1.trans hs.1, h1.2.trans hs.2.1, stS_c t (fun i h0 hi => h i h0 (by simp only [List.length_cons]; omega)) hs.2.2⟩
theorem stW_c {M M' : mm_} : ∀ (l : List (Int × Int × Int)), (∀ i : Int, 0 ≤ i → i < l.length → M' 231 i = M 231 i ∧ M' 232 i = M 232 i ∧ M' 233 i = M 233 i) → stW M l → stW M' l
  | [], _, _ => trivial
  | x :: t, h, hs => by
    have h1 := h t.length (by omega) (by simp only [List.length_cons]; omega)
    exact ⟨h1.1.trans hs.1, h1.2.1.trans hs.2.1, h1.2.2.trans hs.2.2.1, stW_c t (fun i h0 hi => h i h0 (by simp only [List.length_cons]; omega)) hs.2.2.2⟩
theorem stC_c {M M' : mm_} : ∀ (l : List Int), (∀ i : Int, 0 ≤ i → i < l.length → M' 234 i = M 234 i) → stC M l → stC M' l
  | [], _, _ => trivial
  | x :: t, h, hs => by
    have h1 := h t.length (by omega) (by simp only [List.length_cons]; omega)
    exact ⟨h1.trans hs.1, stC_c t (fun i h0 hi => h i h0 (by simp only [List.length_cons]; omega)) hs.2⟩
theorem stF_c {M M' : mm_} {f : Int} : ∀ (l : List (Int × Int)), (∀ i : Int, f ≤ i → i < f + l.length → M' 227 i = M 227 i ∧ M' 228 i = M 228 i) → stF M f l → stF M' f l
  | [], _, _ => trivial
  | x :: t, h, hs => by
    have h1 := h (f + t.length) (by omega) (by simp only [List.length_cons]; omega)
    exact ⟨h1.1.trans hs.1, h1.2.trans hs.2.1, stF_c t (fun i h0 hi => h i h0 (by simp only [List.length_cons]; omega)) hs.2.2⟩
section QE
variable {d : Nat} {M : mm_} {sg : List (Int × Int)} {ws : List (Int × Int × Int)} {cm : List Int} {f : Int} {fm : List (Int × Int)} {K : Int → mm_ → Prop} {Kv : mm_ → Prop} {Qr : qr_} {Qt : qt_} {V : vv_}
/-- the scalars of Q that an e does not touch by its lists -/
def QF (M M' : mm_) : Prop := Fr_ [6, 227, 228, 229, 230, 231, 232, 233, 234] M M' ∧ ∀ i : Int, i ≠ 12 → i ≠ 13 → i ≠ 14 → i ≠ 15 → i ≠ 104 → i ≠ 112 → i ≠ 116 → i ≠ 118 → M' 6 i = M 6 i
theorem QF_rf : QF M M := ⟨Fr_rf, fun _ _ _ _ _ _ _ _ _ => rfl⟩
theorem QF_tr {M1 M2 : mm_} (h1 : QF M M1) (h2 : QF M1 M2) : QF M M2 := ⟨Fr_tr h1.1 h2.1, fun i a b c e g h j k => (h2.2 i a b c e g h j k).trans (h1.2 i a b c e g h j k)⟩
/-- the scalars that stay: at, fault, its place, open -/
def Sc (M M' : mm_) : Prop := M' 6 12 = M 6 12 ∧ M' 6 13 = M 6 13 ∧ M' 6 14 = M 6 14 ∧ M' 6 15 = M 6 15
/-- put: a form more -/
def pu_ (M : mm_) (x y : Int) : mm_ := up_ (up_ (up_ M 227 (M 6 104) x) 228 (M 6 104) y) 6 104 (M 6 104 + 1)
theorem q_277 {x y : Int} (h0 : 0 ≤ M 6 104) (h1 : M 6 104 < 3000) (h : Kv (pu_ M x y)) : Tr_ wd0 pg0 (d + 1) 277 [.inr (.inr 6), .inl x, .inl y] M (rv_ Kv) Qt := t_277 fun V hV hW => b_277_0 (Tr_mono _) hV hW x y M ⟨⟨h0, h1⟩, ⟨h0, h1⟩, rv_i (by rw [w32_id (by omega) (by omega)]; exact h)⟩
theorem pu_6 {x y i : Int} (h : i ≠ 104) : pu_ M x y 6 i = M 6 i := by unfold pu_; rw [up_off h, up_ne (by decide), up_ne (by decide)]
theorem pu_r {x y : Int} {r : Nat} (h : r ≠ 6) (h1 : r ≠ 227) (h2 : r ≠ 228) : pu_ M x y r = M r := by unfold pu_; rw [up_ne h, up_ne h2, up_ne h1]
theorem pu_QF {x y : Int} : QF M (pu_ M x y) := ⟨Fr_up (Fr_up (Fr_up Fr_rf (by decide)) (by decide)) (by decide), fun i _ _ _ _ h _ _ _ => pu_6 h⟩
theorem pu_QE {x y : Int} (h : QE M sg ws cm f fm) : QE (pu_ M x y) sg ws cm f ((x, y) :: fm) := by
  obtain ⟨h1, h2, h3, h4, h5, h6, h7, h8⟩ := h
  refine ⟨by rw [pu_6 (by decide)]; exact h1, stS_c _ (fun i _ _ => by rw [pu_r (by decide) (by decide) (by decide), pu_r (by decide) (by decide) (by decide)]; exact ⟨rfl, rfl⟩) h2, by rw [pu_6 (by decide)]; exact h3, stW_c _ (fun i _ _ => by rw [pu_r (by decide) (by decide) (by decide), pu_r (by decide) (by decide) (by decide), pu_r (by decide) (by decide) (by decide)]; exact ⟨rfl, rfl, rfl⟩) h4, by rw [pu_6 (by decide)]; exact h5, stC_c _ (fun i _ _ => by rw [pu_r (by decide) (by decide) (by decide)]) h6, ?_, ?_, ?_, ?_⟩
  · unfold pu_; rw [up_at, h7, List.length_cons]; omega
  · unfold pu_; rw [up_ne (by decide), up_ne (by decide), h7, up_at]
  · unfold pu_; rw [up_ne (by decide), h7, up_at]
  · refine stF_c _ (fun i hi hj => ?_) h8
    unfold pu_
    rw [up_ne (by decide), up_ne (by decide), up_off (by rw [h7]; omega), up_ne (by decide), up_off (by rw [h7]; omega), up_ne (by decide)]
    exact ⟨rfl, rfl⟩
/-- hold: a sign more -/
def ho_ (M : mm_) (x y : Int) : mm_ := up_ (up_ (up_ M 229 (M 6 112) x) 230 (M 6 112) y) 6 112 (M 6 112 + 1)
theorem q_273 {x y : Int} (h0 : 0 ≤ M 6 112) (h1 : M 6 112 < 1240) (h : Kv (ho_ M x y)) : Tr_ wd0 pg0 (d + 1) 273 [.inr (.inr 6), .inl x, .inl y] M (rv_ Kv) Qt := t_273 fun V hV hW => b_273_0 (Tr_mono _) hV hW x y M ⟨⟨h0, h1⟩, ⟨h0, h1⟩, rv_i (by rw [w32_id (by omega) (by omega)]; exact h)⟩
theorem ho_6 {x y i : Int} (h : i ≠ 112) : ho_ M x y 6 i = M 6 i := by unfold ho_; rw [up_off h, up_ne (by decide), up_ne (by decide)]
theorem ho_r {x y : Int} {r : Nat} (h : r ≠ 6) (h1 : r ≠ 229) (h2 : r ≠ 230) : ho_ M x y r = M r := by unfold ho_; rw [up_ne h, up_ne h2, up_ne h1]
theorem ho_QF {x y : Int} : QF M (ho_ M x y) := ⟨Fr_up (Fr_up (Fr_up Fr_rf (by decide)) (by decide)) (by decide), fun i _ _ _ _ _ h _ _ => ho_6 h⟩
theorem ho_QE {x y : Int} (h : QE M sg ws cm f fm) : QE (ho_ M x y) ((x, y) :: sg) ws cm f fm := by
  obtain ⟨h1, h2, h3, h4, h5, h6, h7, h8⟩ := h
  refine ⟨?_, ⟨?_, ?_, ?_⟩, by rw [ho_6 (by decide)]; exact h3, stW_c _ (fun i _ _ => by rw [ho_r (by decide) (by decide) (by decide), ho_r (by decide) (by decide) (by decide), ho_r (by decide) (by decide) (by decide)]; exact ⟨rfl, rfl, rfl⟩) h4, by rw [ho_6 (by decide)]; exact h5, stC_c _ (fun i _ _ => by rw [ho_r (by decide) (by decide) (by decide)]) h6, by rw [ho_6 (by decide)]; exact h7, stF_c _ (fun i _ _ => by rw [ho_r (by decide) (by decide) (by decide), ho_r (by decide) (by decide) (by decide)]; exact ⟨rfl, rfl⟩) h8⟩
  · unfold ho_; rw [up_at, h1, List.length_cons]; omega
  · unfold ho_; rw [up_ne (by decide), up_ne (by decide), h1, up_at]
  · unfold ho_; rw [up_ne (by decide), h1, up_at]
  · refine stS_c _ (fun i hi hj => ?_) h2
    unfold ho_
    rw [up_ne (by decide), up_ne (by decide), up_off (by rw [h1]; omega), up_ne (by decide), up_off (by rw [h1]; omega), up_ne (by decide)]
    exact ⟨rfl, rfl⟩
/-- a scalar of Q that no list needs -/
theorem QE_sc {i v : Int} (h : QE M sg ws cm f fm) (a : i ≠ 104) (b : i ≠ 112) (c : i ≠ 116) (e : i ≠ 118) : QE (up_ M 6 i v) sg ws cm f fm := by
  obtain ⟨h1, h2, h3, h4, h5, h6, h7, h8⟩ := h
  refine ⟨by rw [up_off (Ne.symm b)]; exact h1, stS_c _ (fun i _ _ => by rw [up_ne (by decide), up_ne (by decide)]; exact ⟨rfl, rfl⟩) h2, by rw [up_off (Ne.symm c)]; exact h3, stW_c _ (fun i _ _ => by rw [up_ne (by decide), up_ne (by decide), up_ne (by decide)]; exact ⟨rfl, rfl, rfl⟩) h4, by rw [up_off (Ne.symm e)]; exact h5, stC_c _ (fun i _ _ => by rw [up_ne (by decide)]) h6, by rw [up_off (Ne.symm a)]; exact h7, stF_c _ (fun i _ _ => by rw [up_ne (by decide), up_ne (by decide)]; exact ⟨rfl, rfl⟩) h8⟩
theorem bf_QE {k p : Int} (h : QE M sg ws cm f fm) : QE (bf_ M k p) sg ws cm f fm := QE_sc (QE_sc h (by decide) (by decide) (by decide) (by decide)) (by decide) (by decide) (by decide) (by decide)
theorem nx_QE (h : QE M sg ws cm f fm) : QE (nx_ M) sg ws cm f fm := QE_sc h (by decide) (by decide) (by decide) (by decide)
theorem nt_QE {k p : Int} (h : QE M sg ws cm f fm) : QE (nt_ M k p) sg ws cm f fm := by
  unfold nt_
  split
  · exact h
  · split
    · exact bf_QE h
    · exact h
/-- a sign less -/
theorem pS_QE {x : Int × Int} (h : QE M (x :: sg) ws cm f fm) : QE (up_ M 6 112 (M 6 112 - 1)) sg ws cm f fm := by
  obtain ⟨h1, h2, h3, h4, h5, h6, h7, h8⟩ := h
  refine ⟨by rw [up_at, h1, List.length_cons]; omega, stS_c _ (fun i _ _ => by rw [up_ne (by decide), up_ne (by decide)]; exact ⟨rfl, rfl⟩) h2.2.2, by rw [up_off (by decide)]; exact h3, stW_c _ (fun i _ _ => by rw [up_ne (by decide), up_ne (by decide), up_ne (by decide)]; exact ⟨rfl, rfl, rfl⟩) h4, by rw [up_off (by decide)]; exact h5, stC_c _ (fun i _ _ => by rw [up_ne (by decide)]) h6, by rw [up_off (by decide)]; exact h7, stF_c _ (fun i _ _ => by rw [up_ne (by decide), up_ne (by decide)]; exact ⟨rfl, rfl⟩) h8⟩
/-- an operand less -/
theorem pW_QE {x : Int × Int × Int} (h : QE M sg (x :: ws) cm f fm) : QE (up_ M 6 116 (M 6 116 - 1)) sg ws cm f fm := by
  obtain ⟨h1, h2, h3, h4, h5, h6, h7, h8⟩ := h
  refine ⟨by rw [up_off (by decide)]; exact h1, stS_c _ (fun i _ _ => by rw [up_ne (by decide), up_ne (by decide)]; exact ⟨rfl, rfl⟩) h2, by rw [up_at, h3, List.length_cons]; omega, stW_c _ (fun i _ _ => by rw [up_ne (by decide), up_ne (by decide), up_ne (by decide)]; exact ⟨rfl, rfl, rfl⟩) h4.2.2.2, by rw [up_off (by decide)]; exact h5, stC_c _ (fun i _ _ => by rw [up_ne (by decide)]) h6, by rw [up_off (by decide)]; exact h7, stF_c _ (fun i _ _ => by rw [up_ne (by decide), up_ne (by decide)]; exact ⟨rfl, rfl⟩) h8⟩
/-- an operand's parts change -/
def w3_ (M : mm_) (i s p b : Int) : mm_ := up_ (up_ (up_ M 231 i s) 232 i p) 233 i b
theorem w3_QE {x : Int × Int × Int} {s p b i : Int} (h : QE M sg (x :: ws) cm f fm) (hi : i = ws.length) : QE (w3_ M i s p b) sg ((s, p, b) :: ws) cm f fm := by
  subst hi
  obtain ⟨h1, h2, h3, h4, h5, h6, h7, h8⟩ := h
  have e : ∀ r : Nat, r ≠ 231 → r ≠ 232 → r ≠ 233 → w3_ M ws.length s p b r = M r := fun r a b c => by unfold w3_; rw [up_ne c, up_ne b, up_ne a]
  refine ⟨by rw [e 6 (by decide) (by decide) (by decide)]; exact h1, stS_c _ (fun i _ _ => by rw [e 229 (by decide) (by decide) (by decide), e 230 (by decide) (by decide) (by decide)]; exact ⟨rfl, rfl⟩) h2, by rw [e 6 (by decide) (by decide) (by decide)]; exact h3, ⟨?_, ?_, ?_, ?_⟩, by rw [e 6 (by decide) (by decide) (by decide)]; exact h5, stC_c _ (fun i _ _ => by rw [e 234 (by decide) (by decide) (by decide)]) h6, by rw [e 6 (by decide) (by decide) (by decide)]; exact h7, stF_c _ (fun i _ _ => by rw [e 227 (by decide) (by decide) (by decide), e 228 (by decide) (by decide) (by decide)]; exact ⟨rfl, rfl⟩) h8⟩
  · unfold w3_; rw [up_ne (by decide), up_ne (by decide), up_at]
  · unfold w3_; rw [up_ne (by decide), up_at]
  · unfold w3_; rw [up_at]
  · refine stW_c _ (fun i hi hj => ?_) h4.2.2.2
    unfold w3_
    rw [up_ne (by decide), up_ne (by decide), up_off (by omega), up_ne (by decide), up_off (by omega), up_ne (by decide), up_off (by omega), up_ne (by decide), up_ne (by decide)]
    exact ⟨rfl, rfl, rfl⟩
/-- an operand more -/
def ad_ (M : mm_) (s p b : Int) : mm_ := up_ (w3_ M (M 6 116) s p b) 6 116 (M 6 116 + 1)
theorem ad_QE {s p b : Int} (h : QE M sg ws cm f fm) : QE (ad_ M s p b) sg ((s, p, b) :: ws) cm f fm := by
  obtain ⟨h1, h2, h3, h4, h5, h6, h7, h8⟩ := h
  have e : ∀ r : Nat, r ≠ 6 → r ≠ 231 → r ≠ 232 → r ≠ 233 → ad_ M s p b r = M r := fun r a b c g => by unfold ad_ w3_; rw [up_ne a, up_ne g, up_ne c, up_ne b]
  have e6 : ∀ i : Int, i ≠ 116 → ad_ M s p b 6 i = M 6 i := fun i a => by unfold ad_ w3_; rw [up_off a, up_ne (by decide), up_ne (by decide), up_ne (by decide)]
  refine ⟨by rw [e6 _ (by decide)]; exact h1, stS_c _ (fun i _ _ => by rw [e 229 (by decide) (by decide) (by decide) (by decide), e 230 (by decide) (by decide) (by decide) (by decide)]; exact ⟨rfl, rfl⟩) h2, ?_, ⟨?_, ?_, ?_, ?_⟩, by rw [e6 _ (by decide)]; exact h5, stC_c _ (fun i _ _ => by rw [e 234 (by decide) (by decide) (by decide) (by decide)]) h6, by rw [e6 _ (by decide)]; exact h7, stF_c _ (fun i _ _ => by rw [e 227 (by decide) (by decide) (by decide) (by decide), e 228 (by decide) (by decide) (by decide) (by decide)]; exact ⟨rfl, rfl⟩) h8⟩
  · unfold ad_; rw [up_at, h3, List.length_cons]; omega
  · unfold ad_ w3_; rw [up_ne (by decide), up_ne (by decide), up_ne (by decide), h3, up_at]
  · unfold ad_ w3_; rw [up_ne (by decide), up_ne (by decide), h3, up_at]
  · unfold ad_ w3_; rw [up_ne (by decide), h3, up_at]
  · refine stW_c _ (fun i hi hj => ?_) h4
    unfold ad_ w3_
    rw [up_ne (by decide), up_ne (by decide), up_ne (by decide), up_off (by rw [h3]; omega), up_ne (by decide), up_ne (by decide), up_off (by rw [h3]; omega), up_ne (by decide), up_ne (by decide), up_off (by rw [h3]; omega), up_ne (by decide), up_ne (by decide)]
    exact ⟨rfl, rfl, rfl⟩
/-- the comparison of the bracket at hand changes -/
theorem cC_QE {x v : Int} {i : Int} (h : QE M sg ws (x :: cm) f fm) (hi : i = cm.length) : QE (up_ M 234 i v) sg ws (v :: cm) f fm := by
  subst hi
  obtain ⟨h1, h2, h3, h4, h5, h6, h7, h8⟩ := h
  refine ⟨by rw [up_ne (by decide)]; exact h1, stS_c _ (fun i _ _ => by rw [up_ne (by decide), up_ne (by decide)]; exact ⟨rfl, rfl⟩) h2, by rw [up_ne (by decide)]; exact h3, stW_c _ (fun i _ _ => by rw [up_ne (by decide), up_ne (by decide), up_ne (by decide)]; exact ⟨rfl, rfl, rfl⟩) h4, by rw [up_ne (by decide)]; exact h5, ⟨by rw [up_at], stC_c _ (fun i hi hj => by rw [up_off (by omega)]) h6.2⟩, by rw [up_ne (by decide)]; exact h7, stF_c _ (fun i _ _ => by rw [up_ne (by decide), up_ne (by decide)]; exact ⟨rfl, rfl⟩) h8⟩
/-- a bracket more -/
def br_ (M : mm_) : mm_ := up_ (up_ M 6 118 (M 6 118 + 1)) 234 (M 6 118 + 1) 0
theorem br_QE (h : QE M sg ws cm f fm) : QE (br_ M) sg ws (0 :: cm) f fm := by
  obtain ⟨h1, h2, h3, h4, h5, h6, h7, h8⟩ := h
  have e : ∀ r : Nat, r ≠ 6 → r ≠ 234 → br_ M r = M r := fun r a b => by unfold br_; rw [up_ne b, up_ne a]
  have e6 : ∀ i : Int, i ≠ 118 → br_ M 6 i = M 6 i := fun i a => by unfold br_; rw [up_ne (by decide), up_off a]
  refine ⟨by rw [e6 _ (by decide)]; exact h1, stS_c _ (fun i _ _ => by rw [e 229 (by decide) (by decide), e 230 (by decide) (by decide)]; exact ⟨rfl, rfl⟩) h2, by rw [e6 _ (by decide)]; exact h3, stW_c _ (fun i _ _ => by rw [e 231 (by decide) (by decide), e 232 (by decide) (by decide), e 233 (by decide) (by decide)]; exact ⟨rfl, rfl, rfl⟩) h4, ?_, ⟨?_, ?_⟩, by rw [e6 _ (by decide)]; exact h7, stF_c _ (fun i _ _ => by rw [e 227 (by decide) (by decide), e 228 (by decide) (by decide)]; exact ⟨rfl, rfl⟩) h8⟩
  · unfold br_; rw [up_ne (by decide), up_at, List.length_cons]; omega
  · unfold br_; rw [h5, up_at]
  · refine stC_c _ (fun i hi hj => ?_) h6
    unfold br_; rw [up_off (by omega), up_ne (by decide)]
theorem pC_QE {x : Int} (h : QE M sg ws (x :: cm) f fm) : QE (up_ M 6 118 (M 6 118 - 1)) sg ws cm f fm := by
  obtain ⟨h1, h2, h3, h4, h5, h6, h7, h8⟩ := h
  refine ⟨by rw [up_off (by decide)]; exact h1, stS_c _ (fun i _ _ => by rw [up_ne (by decide), up_ne (by decide)]; exact ⟨rfl, rfl⟩) h2, by rw [up_off (by decide)]; exact h3, stW_c _ (fun i _ _ => by rw [up_ne (by decide), up_ne (by decide), up_ne (by decide)]; exact ⟨rfl, rfl, rfl⟩) h4, ?_, stC_c _ (fun i _ _ => by rw [up_ne (by decide)]) h6.2, by rw [up_off (by decide)]; exact h7, stF_c _ (fun i _ _ => by rw [up_ne (by decide), up_ne (by decide)]; exact ⟨rfl, rfl⟩) h8⟩
  rw [up_at]; simp only [List.length_cons] at h5; omega
end QE
end T62_qe
section T63_qe
/-! Q's e's: one step of reducing, of prefixes; signs that bind two -/
/-- a fault and its place, with a note more -/
def np_ (j : Int) (q : Int × Int) (k p : Int) : Int × Int := if j = 0 then q else if q.1 = 0 ∨ p < q.2 ∨ p = q.2 ∧ k < q.1 then (k, p) else q
def fqq_ (M : mm_) : Int × Int := (M 6 13, M 6 14)
theorem nt_fq {M : mm_} {k p : Int} : fqq_ (nt_ M k p) = np_ (M 6 16) (fqq_ M) k p := by
  unfold nt_ np_ fqq_
  by_cases h1 : M 6 16 = 0
  · rw [if_pos h1, if_pos h1]
  · rw [if_neg h1, if_neg h1]
    by_cases h2 : M 6 13 = 0 ∨ p < M 6 14 ∨ p = M 6 14 ∧ k < M 6 13
    · rw [if_pos h2, if_pos h2, bf_13, bf_14]
    · rw [if_neg h2, if_neg h2]
theorem nt_6 {M : mm_} {k p i : Int} (h1 : i ≠ 13) (h2 : i ≠ 14) : nt_ M k p 6 i = M 6 i := by
  unfold nt_
  split
  · rfl
  · split
    · exact bf_6 h1 h2
    · rfl
theorem nt_r {M : mm_} {k p : Int} {r : Nat} (h : r ≠ 6) : nt_ M k p r = M r := by
  unfold nt_
  split
  · rfl
  · split
    · exact bf_ne h
    · rfl
theorem nt_QF {M : mm_} {k p : Int} : QF M (nt_ M k p) := ⟨fun r h => nt_r fun e => h (by rw [e]; decide), fun i _ h1 h2 _ _ _ _ _ => nt_6 h1 h2⟩
/-- what asking an operand for a sort notes, and whether it is wrong -/
def ab_ (x : Int × Int × Int) (w : Int) : Int := if x.2.2 = 0 ∧ x.1 ≠ w then 1 else 0
def aM_ (M : mm_) (x : Int × Int × Int) (w : Int) : mm_ := if x.2.2 = 0 ∧ x.1 ≠ w then nt_ M 5 x.2.1 else M
def aq_ (j : Int) (q : Int × Int) (x : Int × Int × Int) (w : Int) : Int × Int := if x.2.2 = 0 ∧ x.1 ≠ w then np_ j q 5 x.2.1 else q
theorem aM_fq {M : mm_} {x : Int × Int × Int} {w : Int} : fqq_ (aM_ M x w) = aq_ (M 6 16) (fqq_ M) x w := by
  unfold aM_ aq_; split
  · exact nt_fq
  · rfl
theorem aM_6 {M : mm_} {x : Int × Int × Int} {w i : Int} (h1 : i ≠ 13) (h2 : i ≠ 14) : aM_ M x w 6 i = M 6 i := by
  unfold aM_; split
  · exact nt_6 h1 h2
  · rfl
theorem aM_r {M : mm_} {x : Int × Int × Int} {w : Int} {r : Nat} (h : r ≠ 6) : aM_ M x w r = M r := by
  unfold aM_; split
  · exact nt_r h
  · rfl
theorem aM_QF {M : mm_} {x : Int × Int × Int} {w : Int} : QF M (aM_ M x w) := by
  unfold aM_; split
  · exact nt_QF
  · exact QF_rf
theorem aM_QE {M : mm_} {x : Int × Int × Int} {w : Int} {sg : List (Int × Int)} {ws : List (Int × Int × Int)} {cm : List Int} {f : Int} {fm : List (Int × Int)} (h : QE M sg ws cm f fm) : QE (aM_ M x w) sg ws cm f fm := by
  unfold aM_; split
  · exact nt_QE h
  · exact h
/-- reducing: the sort that a sign wants, its notes, whether the two are wrong -/
def rw_ (s : Int) : Int := if s = 31 ∨ s = 32 then 2 else 1
def rq_ (j : Int) (q : Int × Int) (s : Int) (x y : Int × Int × Int) : Int × Int := if s = 25 ∨ s = 26 then (if x.2.2 = 0 ∧ y.2.2 = 0 ∧ x.1 ≠ y.1 then np_ j q 5 y.2.1 else q) else aq_ j (aq_ j q x (rw_ s)) y (rw_ s)
def rb_ (s : Int) (x y : Int × Int × Int) : Int := if s = 25 ∨ s = 26 then (if x.2.2 = 0 ∧ y.2.2 = 0 ∧ x.1 = y.1 then 0 else 1) else (if x.2.2 = 0 ∧ y.2.2 = 0 ∧ x.1 = rw_ s ∧ y.1 = rw_ s then 0 else 1)
def lo9_ (s : Int) : Int := if s = 32 then 1 else if s = 31 then 2 else if 25 ≤ s then 3 else if 22 ≤ s then 5 else if 20 ≤ s then 4 else 0
section QE
variable {d : Nat} {M : mm_} {sg : List (Int × Int)} {ws : List (Int × Int × Int)} {cm : List Int} {f : Int} {fm : List (Int × Int)} {K : Int → mm_ → Prop} {Kv : mm_ → Prop} {Qr : qr_} {Qt : qt_} {V : vv_}
theorem q_280 {i w : Int} {x : Int × Int × Int} (h0 : 0 ≤ i) (h1 : i < 1202) (e1 : M 231 i = x.1) (e2 : M 232 i = x.2.1) (e3 : M 233 i = x.2.2) (h : K (ab_ x w) (aM_ M x w)) : Tr_ wd0 pg0 (d + 2) 280 [.inr (.inr 6), .inl i, .inl w] M (ri_ K) Qt := t_280 fun V hV hW => b_280_0 (Tr_mono _) hV hW i w M (by
  refine ⟨⟨h0, h1⟩, fun _ => ?_⟩
  rw [e1, e2, e3]
  unfold ab_ aM_ at h
  by_cases a1 : x.2.2 = 0
  · rw [if_pos a1]
    by_cases a2 : x.1 = w
    · rw [if_neg (fun h9 => h9.2 a2), if_neg (fun h9 => h9.2 a2)] at h
      rw [if_pos a2, if_pos rfl]
      exact ⟨⟨h0, h1⟩, .inl rfl, ri_i h⟩
    · rw [if_pos ⟨a1, a2⟩, if_pos ⟨a1, a2⟩] at h
      rw [if_neg a2, if_neg (by decide)]
      exact ⟨⟨h0, h1⟩, ⟨h0, h1⟩, q_236 ⟨.inr rfl, ri_i h⟩⟩
  · rw [if_neg (fun h9 => a1 h9.1), if_neg (fun h9 => a1 h9.1)] at h
    rw [if_neg a1, if_pos rfl]
    exact ⟨.inl rfl, ri_i h⟩)
theorem q_287 {s : Int} (h : K (lo9_ s) M) : Tr_ wd0 pg0 (d + 1) 287 [.inl s] M (ri_ K) Qt := t_287 fun V hV hW => b_287_0 (Tr_mono _) hV hW s M (by
  unfold lo9_ at h
  by_cases a1 : s = 32
  · rw [if_pos a1] at h ⊢; exact ri_i h
  · rw [if_neg a1] at h ⊢
    by_cases a2 : s = 31
    · rw [if_pos a2] at h ⊢; exact ri_i h
    · rw [if_neg a2] at h ⊢
      by_cases a3 : s < 25
      · rw [if_neg (by omega)] at h; rw [if_pos a3]
        by_cases a4 : s < 22
        · rw [if_neg (by omega)] at h; rw [if_pos a4]
          by_cases a5 : s < 20
          · rw [if_neg (by omega)] at h; rw [if_pos a5]; exact ri_i h
          · rw [if_pos (by omega)] at h; rw [if_neg a5]; exact ri_i h
        · rw [if_pos (by omega)] at h; rw [if_neg a4]; exact ri_i h
      · rw [if_pos (by omega)] at h; rw [if_neg a3]; exact ri_i h)
/-- what a step of reducing leaves -/
def Rd (M M' : mm_) (s : Int) (x y : Int × Int × Int) : Prop := QF M M' ∧ M' 6 12 = M 6 12 ∧ M' 6 15 = M 6 15 ∧ fqq_ M' = rq_ (M 6 16) (fqq_ M) s x y
theorem l_286_218 (hV : Cl_ wd0 (Tr_ wd0 pg0 (d + 2)) V Qr Qt m_286) (hW : Wk_ V) {a1 a2 s : Int} {x y : Int × Int × Int} {b : Int} (hE : QE M sg (y :: x :: ws) cm f fm) (hl : (ws.length : Int) + 1 < 1202) (hb : b = 0 ∨ b = 1)
    (h : ∀ M', QF M M' → M' 6 12 = M 6 12 → M' 6 15 = M 6 15 → fqq_ M' = fqq_ M → QE M' sg ((if s < 25 then 1 else 2, x.2.1, b) :: ws) cm f fm → V 11 [rr 6, ii a1, ii a2, none, none, none, none, none, none, none] [] M') :
    V 218 [rr 6, ii a1, ii a2, ii s, ii ((ws.length : Int) + 1), ii (ws.length : Int), ii b, none, none, none] [] M := by
  have e116 : M 6 116 = (ws.length : Int) + 2 := by rw [hE.2.2.1]; simp only [List.length_cons]; omega
  have key : ∀ t : Int, QE (up_ (up_ (up_ M 6 116 (w32 (M 6 116 - 1))) 231 (ws.length : Int) t) 233 (ws.length : Int) b) sg ((t, x.2.1, b) :: ws) cm f fm := by
    intro t
    have h1 := pW_QE hE
    have h2 := w3_QE (s := t) (p := x.2.1) (b := b) h1 rfl
    have e3 : (up_ M 6 116 (M 6 116 - 1)) 232 (ws.length : Int) = x.2.1 := by rw [up_ne (by decide)]; exact hE.2.2.2.1.2.2.2.2.1
    have e4 : w3_ (up_ M 6 116 (M 6 116 - 1)) (ws.length : Int) t x.2.1 b = up_ (up_ (up_ M 6 116 (w32 (M 6 116 - 1))) 231 (ws.length : Int) t) 233 (ws.length : Int) b := by
      unfold w3_
      rw [w32_id (by omega) (by omega)]
      congr 1
      refine up_id' ?_
      rw [up_ne (by decide)]; exact e3
    rw [← e4]; exact h2
  have kf : ∀ t : Int, QF M (up_ (up_ (up_ M 6 116 (w32 (M 6 116 - 1))) 231 (ws.length : Int) t) 233 (ws.length : Int) b) := by
    intro t
    refine ⟨Fr_up (Fr_up (Fr_up Fr_rf (by decide)) (by decide)) (by decide), fun i _ _ _ _ _ _ h _ => ?_⟩
    rw [up_ne (by decide), up_ne (by decide), up_off h]
  have k6 : ∀ (t i : Int), i ≠ 116 → (up_ (up_ (up_ M 6 116 (w32 (M 6 116 - 1))) 231 (ws.length : Int) t) 233 (ws.length : Int) b) 6 i = M 6 i := by
    intro t i h
    rw [up_ne (by decide), up_ne (by decide), up_off h]
  refine b_286_218 (Tr_mono _) hV hW a1 a2 s _ _ b M ?_
  split
  · rename_i h1
    refine ⟨by omega, ⟨by omega, hb⟩, ?_⟩
    refine h _ (kf 1) (k6 1 _ (by decide)) (k6 1 _ (by decide)) ?_ ?_
    · unfold fqq_; rw [k6 1 _ (by decide), k6 1 _ (by decide)]
    · rw [if_pos h1]; exact key 1
  · rename_i h1
    refine ⟨by omega, ⟨by omega, hb⟩, ?_⟩
    refine h _ (kf 2) (k6 2 _ (by decide)) (k6 2 _ (by decide)) ?_ ?_
    · unfold fqq_; rw [k6 2 _ (by decide), k6 2 _ (by decide)]
    · rw [if_neg h1]; exact key 2
theorem l_286_11 (hV : Cl_ wd0 (Tr_ wd0 pg0 (d + 2)) V Qr Qt m_286) (hW : Wk_ V) {a1 a2 s tk : Int} {x y : Int × Int × Int} (hE : QE M ((s, tk) :: sg) (y :: x :: ws) cm f fm) (hl : (ws.length : Int) + 1 < 1202) (hs : (sg.length : Int) < 1240) (hf0 : 0 ≤ f) (hf : f + fm.length < 3000)
    (bx : x.2.2 = 0 ∨ x.2.2 = 1) (bY : y.2.2 = 0 ∨ y.2.2 = 1) (hlev : a2 ≤ lo9_ s)
    (h : ∀ M', Rd M M' s x y → QE M' sg ((if s < 25 then 1 else 2, x.2.1, rb_ s x y) :: ws) cm f ((s, 0) :: fm) → V 11 [rr 6, ii a1, ii a2, none, none, none, none, none, none, none] [] M') :
    V 11 [rr 6, ii a1, ii a2, none, none, none, none, none, none, none] [] M := by
  have e112 : M 6 112 = (sg.length : Int) + 1 := by rw [hE.1]; simp only [List.length_cons]; omega
  have e229 : M 229 (sg.length : Int) = s := hE.2.1.1
  refine b_286_11 (Tr_mono _) hV hW a1 a2 M ?_
  rw [if_neg (by omega), w32_id (by omega) (by omega)]
  have em : M 6 112 - 1 = (sg.length : Int) := by omega
  rw [em, e229]
  refine ⟨by omega, q_287 ?_⟩
  rw [if_neg (by omega), w32_id (by omega) (by omega), em, e229]
  refine ⟨by omega, ?_⟩
  have hE1 : QE (up_ M 6 112 (sg.length : Int)) sg (y :: x :: ws) cm f fm := by rw [← em]; exact pS_QE hE
  have e104 : (up_ M 6 112 (sg.length : Int)) 6 104 = f + fm.length := hE1.2.2.2.2.2.2.1
  refine q_277 (by omega) (by omega) ?_
  have hE2 := pu_QE (x := s) (y := 0) hE1
  generalize hM2 : pu_ (up_ M 6 112 (sg.length : Int)) s 0 = M2 at hE2
  have q2 : QF M M2 := by
    rw [← hM2]
    exact QF_tr ⟨Fr_up Fr_rf (by decide), fun i _ _ _ _ _ h _ _ => by rw [up_off h]⟩ pu_QF
  have s2 : ∀ i : Int, i ≠ 104 → i ≠ 112 → M2 6 i = M 6 i := fun i a b => by rw [← hM2, pu_6 a, up_off b]
  have e116 : M2 6 116 = (ws.length : Int) + 2 := by rw [hE2.2.2.1]; simp only [List.length_cons]; omega
  have w1 : w32 (M2 6 116 - 1) = (ws.length : Int) + 1 := by rw [w32_id (by omega) (by omega)]; omega
  have w2 : w32 (M2 6 116 - 2) = (ws.length : Int) := by rw [w32_id (by omega) (by omega)]; omega
  rw [w1, w2]
  have ex3 : M2 233 (ws.length : Int) = x.2.2 := hE2.2.2.2.1.2.2.2.2.2.1
  have ey3 : M2 233 ((ws.length : Int) + 1) = y.2.2 := by have := hE2.2.2.2.1.2.2.1; simp only [List.length_cons] at this; exact_mod_cast this
  have ex1 : M2 231 (ws.length : Int) = x.1 := hE2.2.2.2.1.2.2.2.1
  have ey1 : M2 231 ((ws.length : Int) + 1) = y.1 := by have := hE2.2.2.2.1.1; simp only [List.length_cons] at this; exact_mod_cast this
  have ex2 : M2 232 (ws.length : Int) = x.2.1 := hE2.2.2.2.1.2.2.2.2.1
  have ey2 : M2 232 ((ws.length : Int) + 1) = y.2.1 := by have := hE2.2.2.2.1.2.1; simp only [List.length_cons] at this; exact_mod_cast this
  rw [ex3, ey3]
  refine ⟨by omega, fun _ => ?_⟩
  have main : ∀ b0 : Int, (b0 = 0 ∨ b0 = 1) → (b0 = 0 ↔ x.2.2 = 0 ∧ y.2.2 = 0) → V 105 [rr 6, ii a1, ii a2, ii s, ii ((ws.length : Int) + 1), ii (ws.length : Int), ii b0, none, none, none] [] M2 := by
    intro b0 hb0 hbe
    refine b_286_105 (Tr_mono _) hV hW a1 a2 s _ _ b0 M2 ?_
    have same : s = 25 ∨ s = 26 → V 117 [rr 6, ii a1, ii a2, ii s, ii ((ws.length : Int) + 1), ii (ws.length : Int), ii b0, none, none, none] [] M2 := by
      intro hs2
      refine b_286_117 (Tr_mono _) hV hW a1 a2 s _ _ b0 M2 ?_
      rw [ex1, ey1, ey2]
      have fin : ∀ (b : Int) (M3 : mm_), (b = 0 ∨ b = 1) → QE M3 sg (y :: x :: ws) cm f ((s, 0) :: fm) → QF M M3 → M3 6 12 = M 6 12 → M3 6 15 = M 6 15 → fqq_ M3 = rq_ (M 6 16) (fqq_ M) s x y → b = rb_ s x y → V 218 [rr 6, ii a1, ii a2, ii s, ii ((ws.length : Int) + 1), ii (ws.length : Int), ii b, none, none, none] [] M3 := by
        intro b M3 hb h3 h4 h5 h6 h7 h8
        refine l_286_218 hV hW h3 hl hb (fun M' c1 c2 c3 c4 c5 => ?_)
        rw [h8] at c5
        exact h M' ⟨QF_tr h4 c1, c2.trans h5, c3.trans h6, c4.trans h7⟩ c5
      have f2 : fqq_ M2 = fqq_ M := by unfold fqq_; rw [s2 13 (by decide) (by decide), s2 14 (by decide) (by decide)]
      by_cases c1 : b0 = 0
      · rw [if_pos c1]
        have c2 := hbe.mp c1
        by_cases c3 : x.1 = y.1
        · rw [if_pos c3]
          refine ⟨by omega, by omega, fin b0 M2 hb0 hE2 q2 (s2 _ (by decide) (by decide)) (s2 _ (by decide) (by decide)) ?_ ?_⟩
          · unfold rq_; rw [if_pos hs2, if_neg (fun h9 => h9.2.2 c3), f2]
          · unfold rb_; rw [if_pos hs2, if_pos ⟨c2.1, c2.2, c3⟩, c1]
        · rw [if_neg c3]
          refine ⟨by omega, by omega, by omega, q_236 ?_⟩
          refine fin 1 _ (.inr rfl) (nt_QE hE2) (QF_tr q2 nt_QF) (by rw [nt_6 (by decide) (by decide)]; exact s2 _ (by decide) (by decide)) (by rw [nt_6 (by decide) (by decide)]; exact s2 _ (by decide) (by decide)) ?_ ?_
          · unfold rq_; rw [if_pos hs2, if_pos ⟨c2.1, c2.2, c3⟩, nt_fq, f2, s2 16 (by decide) (by decide)]
          · unfold rb_; rw [if_pos hs2, if_neg (fun h9 => c3 h9.2.2)]
      · rw [if_neg c1]
        have c2 : ¬ (x.2.2 = 0 ∧ y.2.2 = 0) := fun h9 => c1 (hbe.mpr h9)
        refine fin b0 M2 hb0 hE2 q2 (s2 _ (by decide) (by decide)) (s2 _ (by decide) (by decide)) ?_ ?_
        · unfold rq_; rw [if_pos hs2, if_neg (fun h9 => c2 ⟨h9.1, h9.2.1⟩), f2]
        · unfold rb_; rw [if_pos hs2, if_neg (fun h9 => c2 ⟨h9.1, h9.2.1⟩)]; omega
    have other : ¬ (s = 25 ∨ s = 26) → V 176 [rr 6, ii a1, ii a2, ii s, ii ((ws.length : Int) + 1), ii (ws.length : Int), ii b0, ii (rw_ s), none, none] [] M2 := by
      intro hs2
      refine b_286_176 (Tr_mono _) hV hW a1 a2 s _ _ b0 _ M2 ?_
      refine q_280 (x := x) (by omega) (by omega) ex1 ex2 ex3 ?_
      refine q_280 (x := y) (by omega) (by omega) (by rw [aM_r (by decide)]; exact ey1) (by rw [aM_r (by decide)]; exact ey2) (by rw [aM_r (by decide)]; exact ey3) ?_
      have fin : ∀ (b : Int), (b = 0 ∨ b = 1) → b = rb_ s x y → V 218 [rr 6, ii a1, ii a2, ii s, ii ((ws.length : Int) + 1), ii (ws.length : Int), ii b, none, none, none] [] (aM_ (aM_ M2 x (rw_ s)) y (rw_ s)) := by
        intro b hb h8
        refine l_286_218 hV hW (aM_QE (aM_QE hE2)) hl hb (fun M' c1 c2 c3 c4 c5 => ?_)
        rw [h8] at c5
        rw [aM_6 (by decide) (by decide), aM_6 (by decide) (by decide), s2 _ (by decide) (by decide)] at c2 c3
        refine h M' ⟨QF_tr q2 (QF_tr (QF_tr aM_QF aM_QF) c1), c2, c3, ?_⟩ c5
        rw [c4, aM_fq, aM_fq, aM_6 (by decide) (by decide), s2 16 (by decide) (by decide)]
        unfold rq_
        rw [if_neg hs2]
        have : fqq_ M2 = fqq_ M := by unfold fqq_; rw [s2 13 (by decide) (by decide), s2 14 (by decide) (by decide)]
        rw [this]
      have eb : ∀ z : Int × Int × Int, ab_ z (rw_ s) = 0 ∨ ab_ z (rw_ s) = 1 := fun z => by unfold ab_; split <;> omega
      by_cases c1 : b0 = 0
      · rw [if_pos c1]
        have c2 := hbe.mp c1
        by_cases c3 : ab_ x (rw_ s) = 0
        · rw [if_pos c3]
          have c3' : x.1 = rw_ s := by unfold ab_ at c3; split at c3; omega; rename_i h9; exact Classical.byContradiction fun h8 => h9 ⟨c2.1, h8⟩
          by_cases c4 : ab_ y (rw_ s) = 0
          · rw [if_pos c4]
            have c4' : y.1 = rw_ s := by unfold ab_ at c4; split at c4; omega; rename_i h9; exact Classical.byContradiction fun h8 => h9 ⟨c2.2, h8⟩
            refine fin 0 (.inl rfl) ?_
            unfold rb_; rw [if_neg hs2, if_pos ⟨c2.1, c2.2, c3', c4'⟩]
          · rw [if_neg c4]
            refine fin 1 (.inr rfl) ?_
            unfold rb_; rw [if_neg hs2, if_neg]
            intro h9; apply c4; unfold ab_; rw [if_neg]; intro h8; exact h8.2 h9.2.2.2
        · rw [if_neg c3]
          refine fin 1 (.inr rfl) ?_
          unfold rb_; rw [if_neg hs2, if_neg]
          intro h9; apply c3; unfold ab_; rw [if_neg]; intro h8; exact h8.2 h9.2.2.1
      · rw [if_neg c1]
        refine fin 1 (.inr rfl) ?_
        unfold rb_; rw [if_neg hs2, if_neg]
        intro h9; exact c1 (hbe.mpr ⟨h9.1, h9.2.1⟩)
    by_cases g1 : s = 25
    · rw [if_pos g1]; exact same (.inl g1)
    · rw [if_neg g1]
      by_cases g2 : s = 26
      · rw [if_pos g2]; exact same (.inr g2)
      · rw [if_neg g2]
        have o := other (by omega)
        by_cases g3 : s = 31
        · rw [if_pos g3]
          have : rw_ s = 2 := by unfold rw_; rw [if_pos (.inl g3)]
          rw [this] at o; exact o
        · rw [if_neg g3]
          by_cases g4 : s = 32
          · rw [if_pos g4]
            have : rw_ s = 2 := by unfold rw_; rw [if_pos (.inr g4)]
            rw [this] at o; exact o
          · rw [if_neg g4]
            have : rw_ s = 1 := by unfold rw_; rw [if_neg (by omega)]
            rw [this] at o; exact o
  by_cases c1 : x.2.2 = 0
  · rw [if_pos c1]
    refine ⟨by omega, fun _ => ?_⟩
    by_cases c2 : y.2.2 = 0
    · rw [if_pos c2]; exact main 0 (.inl rfl) ⟨fun _ => ⟨c1, c2⟩, fun _ => rfl⟩
    · rw [if_neg c2]; exact main 1 (.inr rfl) ⟨fun h9 => absurd h9 (by decide), fun h9 => absurd h9.2 c2⟩
  · rw [if_neg c1]; exact main 1 (.inr rfl) ⟨fun h9 => absurd h9 (by decide), fun h9 => absurd h9.1 c1⟩
end QE
end T63_qe
section T64_qe
/-! Q's e's: prefixes, the latest bracket, how strongly a sign binds -/
def pw_ (s : Int) : Int := if s = 13 then 1 else 2
def pb_ (x : Int × Int × Int) (w : Int) : Int := if x.2.2 = 0 ∧ x.1 = w then 0 else 1
def lv_ (k : Int) : Int := if k = 43 then 1 else if k = 42 then 2 else if k = 261 ∨ k = 111 ∨ k = 260 ∨ k = 112 ∨ k = 262 ∨ k = 113 then 3 else if k = 243 ∨ k = 245 then 4 else if k = 242 ∨ k = 247 ∨ k = 237 then 5 else 0
def sh_ (k : Int) : Int := if k = 43 then 32 else if k = 42 then 31 else if k = 261 then 25 else if k = 111 then 26 else if k = 260 then 27 else if k = 112 then 28 else if k = 262 then 29 else if k = 113 then 30 else if k = 243 then 20 else if k = 245 then 21 else if k = 242 then 22 else if k = 247 then 23 else 24
section QE
variable {d : Nat} {M : mm_} {sg : List (Int × Int)} {ws : List (Int × Int × Int)} {cm : List Int} {f : Int} {fm : List (Int × Int)} {K : Int → mm_ → Prop} {Kv : mm_ → Prop} {Qr : qr_} {Qt : qt_} {V : vv_}
theorem l_279_147 (hV : Cl_ wd0 (Tr_ wd0 pg0 d) V Qr Qt m_279) (hW : Wk_ V) {a1 b tk w : Int} {x : Int × Int × Int} {M0 : mm_} (hE : QE M0 sg (x :: ws) cm f fm) (hM : M = up_ M0 231 (ws.length : Int) w) (hl : (ws.length : Int) < 1202) (hb : b = 0 ∨ b = 1) (hs : (sg.length : Int) < 1240) (htk : M0 230 (sg.length : Int) = tk) (ht0 : 0 ≤ tk) (ht1 : tk < 1202)
    (h : ∀ M', QF M0 M' → M' 6 12 = M0 6 12 → M' 6 15 = M0 6 15 → fqq_ M' = fqq_ M0 → QE M' sg ((w, M0 150 tk, b) :: ws) cm f fm → V 0 [rr 6, none, none, none] [] M') :
    V 147 [rr 6, ii a1, ii (ws.length : Int), ii b] [] M := by
  have e112 : M 6 112 = (sg.length : Int) := by rw [hM, up_ne (by decide)]; exact hE.1
  have e230 : M 230 (sg.length : Int) = tk := by rw [hM, up_ne (by decide)]; exact htk
  refine b_279_147 (Tr_mono _) hV hW a1 _ b M ?_
  rw [e112, e230]
  refine ⟨by omega, by omega, by omega, ⟨by omega, hb⟩, ?_⟩
  have e150 : M 150 tk = M0 150 tk := by rw [hM, up_ne (by decide)]
  rw [e150, hM]
  refine h _ ⟨Fr_up (Fr_up (Fr_up Fr_rf (by decide)) (by decide)) (by decide), fun i _ _ _ _ _ _ _ _ => by rw [up_ne (by decide), up_ne (by decide), up_ne (by decide)]⟩ (by rw [up_ne (by decide), up_ne (by decide), up_ne (by decide)]) (by rw [up_ne (by decide), up_ne (by decide), up_ne (by decide)]) ?_ (w3_QE hE rfl)
  unfold fqq_
  rw [up_ne (by decide), up_ne (by decide), up_ne (by decide)]
theorem l_279_0 (hV : Cl_ wd0 (Tr_ wd0 pg0 (d + 2)) V Qr Qt m_279) (hW : Wk_ V) {s tk : Int} {x : Int × Int × Int} (hE : QE M ((s, tk) :: sg) (x :: ws) cm f fm) (hs13 : s = 13 ∨ s = 14) (hl : (ws.length : Int) < 1202) (hs : (sg.length : Int) < 1240) (hf0 : 0 ≤ f) (hf : f + fm.length < 3000) (bx : x.2.2 = 0 ∨ x.2.2 = 1) (ht0 : 0 ≤ tk) (ht1 : tk < 1202) (ho : 0 < M 6 15) (ho2 : M 6 15 ≤ 13)
    (h : ∀ M', QF M M' → M' 6 12 = M 6 12 → M' 6 15 = M 6 15 - 1 → fqq_ M' = aq_ (M 6 16) (fqq_ M) x (pw_ s) → QE M' sg ((pw_ s, M 150 tk, pb_ x (pw_ s)) :: ws) cm f ((s, 0) :: fm) → V 0 [rr 6, none, none, none] [] M') :
    V 0 [rr 6, none, none, none] [] M := by
  have e112 : M 6 112 = (sg.length : Int) + 1 := by rw [hE.1]; simp only [List.length_cons]; omega
  have e229 : M 229 (sg.length : Int) = s := hE.2.1.1
  have e230 : M 230 (sg.length : Int) = tk := hE.2.1.2.1
  have em : M 6 112 - 1 = (sg.length : Int) := by omega
  have w1 : w32 (M 6 112 - 1) = (sg.length : Int) := by rw [w32_id (by omega) (by omega)]; omega
  have w2 : w32 (M 6 15 - 1) = M 6 15 - 1 := w32_id (by omega) (by omega)
  -- behind the sign
  generalize hM1 : up_ (up_ M 6 112 (sg.length : Int)) 6 15 (M 6 15 - 1) = M1
  have hE1 : QE M1 sg (x :: ws) cm f fm := by
    rw [← hM1, ← em]
    exact QE_sc (pS_QE hE) (by decide) (by decide) (by decide) (by decide)
  have s1 : ∀ i : Int, i ≠ 15 → i ≠ 112 → M1 6 i = M 6 i := fun i a b => by rw [← hM1, up_off a, up_off b]
  have r1 : ∀ r : Nat, r ≠ 6 → M1 r = M r := fun r a => by rw [← hM1, up_ne a, up_ne a]
  have q1 : QF M M1 := by rw [← hM1]; exact ⟨Fr_up (Fr_up Fr_rf (by decide)) (by decide), fun i _ _ _ a _ b _ _ => by rw [up_off a, up_off b]⟩
  have o1 : M1 6 15 = M 6 15 - 1 := by rw [← hM1, up_at]
  have i1 : M1 6 112 = (sg.length : Int) := hE1.1
  have go : ∀ a1 : Int, (a1 = 1 ↔ s = 13) → (a1 = 0 ∨ a1 = 1) → V 79 [rr 6, ii a1, none, none] [] M1 := by
    intro a1 ha hab
    refine b_279_79 (Tr_mono _) hV hW a1 M1 ?_
    rw [i1, r1 229 (by decide), e229]
    refine ⟨by omega, q_277 (by rw [hE1.2.2.2.2.2.2.1]; omega) (by rw [hE1.2.2.2.2.2.2.1]; omega) ?_⟩
    have hE2 := pu_QE (x := s) (y := 0) hE1
    generalize hM2 : pu_ M1 s 0 = M2 at hE2
    have s2 : ∀ i : Int, i ≠ 104 → M2 6 i = M1 6 i := fun i a => by rw [← hM2, pu_6 a]
    have r2 : ∀ r : Nat, r ≠ 6 → r ≠ 227 → r ≠ 228 → M2 r = M1 r := fun r a b c => by rw [← hM2, pu_r a b c]
    have q2 : QF M M2 := by rw [← hM2]; exact QF_tr q1 pu_QF
    have e116 : M2 6 116 = (ws.length : Int) + 1 := by rw [hE2.2.2.1]; simp only [List.length_cons]; omega
    have w3 : w32 (M2 6 116 - 1) = (ws.length : Int) := by rw [w32_id (by omega) (by omega)]; omega
    rw [w3]
    have ex1 : M2 231 (ws.length : Int) = x.1 := hE2.2.2.2.1.1
    have ex2 : M2 232 (ws.length : Int) = x.2.1 := hE2.2.2.2.1.2.1
    have ex3 : M2 233 (ws.length : Int) = x.2.2 := hE2.2.2.2.1.2.2.1
    rw [ex3]
    refine ⟨by omega, fun _ => ?_⟩
    have e230' : M2 230 (sg.length : Int) = tk := by rw [r2 230 (by decide) (by decide) (by decide), r1 230 (by decide)]; exact e230
    have f2 : fqq_ M2 = fqq_ M := by unfold fqq_; rw [s2 13 (by decide), s2 14 (by decide), s1 13 (by decide) (by decide), s1 14 (by decide) (by decide)]
    -- the last part
    have fin : ∀ (b w : Int) (M3 : mm_), (b = 0 ∨ b = 1) → w = pw_ s → b = pb_ x (pw_ s) → QE M3 sg (x :: ws) cm f ((s, 0) :: fm) → QF M2 M3 → M3 6 12 = M2 6 12 → M3 6 15 = M2 6 15 → fqq_ M3 = aq_ (M 6 16) (fqq_ M) x (pw_ s) → (∀ r : Nat, r ≠ 6 → M3 r = M2 r) → V 147 [rr 6, ii a1, ii (ws.length : Int), ii b] [] (up_ M3 231 (ws.length : Int) w) := by
      intro b w M3 hb hw hb2 h3 h4 h5 h6 h7 h8
      refine l_279_147 hV hW h3 rfl hl hb hs (by rw [h8 230 (by decide)]; exact e230') ht0 ht1 (fun M' c1 c2 c3 c4 c5 => ?_)
      rw [h8 150 (by decide), r2 150 (by decide) (by decide) (by decide), r1 150 (by decide), hb2, hw] at c5
      refine h M' (QF_tr q2 (QF_tr h4 c1)) ?_ ?_ (c4.trans h7) c5
      · rw [c2, h5, s2 12 (by decide), s1 12 (by decide) (by decide)]
      · rw [c3, h6, s2 15 (by decide), o1]
    have hw9 : ∀ a : Int, a1 = a → (a = 0 → pw_ s = 2) ∧ (a = 1 → pw_ s = 1) := by
      intro a e; subst e
      unfold pw_
      refine ⟨fun h9 => ?_, fun h9 => ?_⟩
      · rw [if_neg (fun h8 => by have := ha.mpr h8; omega)]
      · rw [if_pos (ha.mp h9)]
    have hab2 : ∀ w : Int, ab_ x w = 0 ∨ ab_ x w = 1 := fun w => by unfold ab_; split <;> omega
    by_cases c1 : x.2.2 = 0
    · rw [if_pos c1]
      have ask : ∀ w : Int, w = pw_ s → ∀ v : Int, v = ab_ x w → (v = 0 → pb_ x (pw_ s) = 0) ∧ (v ≠ 0 → pb_ x (pw_ s) = 1) := by
        intro w hw v hv
        subst hw; subst hv
        unfold ab_ pb_
        by_cases h9 : x.1 = pw_ s
        · rw [if_neg (fun h8 => h8.2 h9), if_pos ⟨c1, h9⟩]; exact ⟨fun _ => rfl, fun h8 => absurd rfl h8⟩
        · rw [if_pos ⟨c1, h9⟩, if_neg (fun h8 => h9 h8.2)]; exact ⟨fun h8 => absurd h8 (by decide), fun _ => rfl⟩
      by_cases c2 : a1 = 0
      · rw [if_pos c2]
        have hw := (hw9 a1 rfl).1 c2
        refine q_280 (x := x) (by omega) (by omega) ex1 ex2 ex3 ?_
        have hk := ask 2 hw.symm _ rfl
        have hfq : fqq_ (aM_ M2 x 2) = aq_ (M 6 16) (fqq_ M) x (pw_ s) := by rw [aM_fq, f2, hw, s2 16 (by decide), s1 16 (by decide) (by decide)]
        by_cases c3 : ab_ x 2 = 0
        · rw [if_pos c3, if_pos c2]
          exact ⟨by omega, fin 0 2 _ (.inl rfl) hw.symm (hk.1 c3).symm (aM_QE hE2) aM_QF (aM_6 (by decide) (by decide)) (aM_6 (by decide) (by decide)) hfq (fun r h9 => aM_r h9)⟩
        · rw [if_neg c3, if_pos c2]
          exact ⟨by omega, fin 1 2 _ (.inr rfl) hw.symm (hk.2 c3).symm (aM_QE hE2) aM_QF (aM_6 (by decide) (by decide)) (aM_6 (by decide) (by decide)) hfq (fun r h9 => aM_r h9)⟩
      · rw [if_neg c2]
        have hw := (hw9 a1 rfl).2 (by omega)
        refine q_280 (x := x) (by omega) (by omega) ex1 ex2 ex3 ?_
        have hk := ask 1 hw.symm _ rfl
        have hfq : fqq_ (aM_ M2 x 1) = aq_ (M 6 16) (fqq_ M) x (pw_ s) := by rw [aM_fq, f2, hw, s2 16 (by decide), s1 16 (by decide) (by decide)]
        by_cases c3 : ab_ x 1 = 0
        · rw [if_pos c3, if_neg c2]
          exact ⟨by omega, fin 0 1 _ (.inl rfl) hw.symm (hk.1 c3).symm (aM_QE hE2) aM_QF (aM_6 (by decide) (by decide)) (aM_6 (by decide) (by decide)) hfq (fun r h9 => aM_r h9)⟩
        · rw [if_neg c3, if_neg c2]
          exact ⟨by omega, fin 1 1 _ (.inr rfl) hw.symm (hk.2 c3).symm (aM_QE hE2) aM_QF (aM_6 (by decide) (by decide)) (aM_6 (by decide) (by decide)) hfq (fun r h9 => aM_r h9)⟩
    · rw [if_neg c1]
      have hfq : fqq_ M2 = aq_ (M 6 16) (fqq_ M) x (pw_ s) := by unfold aq_; rw [if_neg (fun h9 => c1 h9.1)]; exact f2
      have hpb : 1 = pb_ x (pw_ s) := by unfold pb_; rw [if_neg (fun h9 => c1 h9.1)]
      by_cases c2 : a1 = 0
      · rw [if_pos c2]
        exact ⟨by omega, fin 1 2 _ (.inr rfl) ((hw9 a1 rfl).1 c2).symm hpb hE2 QF_rf rfl rfl hfq (fun _ _ => rfl)⟩
      · rw [if_neg c2]
        exact ⟨by omega, fin 1 1 _ (.inr rfl) ((hw9 a1 rfl).2 (by omega)).symm hpb hE2 QF_rf rfl rfl hfq (fun _ _ => rfl)⟩
  have at39 : V 39 [rr 6, none, none, none] [] M := by
    refine b_279_39 (Tr_mono _) hV hW M ?_
    rw [w1, w2, e229, hM1]
    refine ⟨by omega, ?_⟩
    by_cases h13 : s = 13
    · rw [if_pos h13]; exact go 1 ⟨fun _ => h13, fun _ => rfl⟩ (.inr rfl)
    · rw [if_neg h13]; exact go 0 ⟨fun h9 => absurd h9 (by decide), fun h9 => absurd h9 h13⟩ (.inl rfl)
  refine b_279_0 (Tr_mono _) hV hW M ?_
  rw [if_neg (by omega), w1, e229]
  refine ⟨by omega, ?_⟩
  by_cases h13 : s = 13
  · rw [if_pos h13]; exact at39
  · rw [if_neg h13, if_pos (by omega)]
    exact ⟨by omega, at39⟩
/-- no prefix on top -/
def nP_ : List (Int × Int) → Prop
  | [] => True
  | x :: _ => x.1 ≠ 13 ∧ x.1 ≠ 14
theorem q_279n (hE : QE M sg ws cm f fm) (hs : (sg.length : Int) ≤ 1240) (hn : nP_ sg) (h : Kv M) : Tr_ wd0 pg0 (d + 1) 279 [.inr (.inr 6)] M (rv_ Kv) Qt := t_279 fun V hV hW => b_279_0 (Tr_mono _) hV hW M (by
  cases sg with
  | nil =>
    rw [if_pos (by rw [hE.1]; simp)]
    exact rv_i h
  | cons x t =>
    have e112 : M 6 112 = (t.length : Int) + 1 := by rw [hE.1]; simp only [List.length_cons]; omega
    have w1 : w32 (M 6 112 - 1) = (t.length : Int) := by rw [w32_id (by omega) (by simp only [List.length_cons] at hs; omega)]; omega
    have e229 : M 229 (t.length : Int) = x.1 := hE.2.1.1
    simp only [List.length_cons] at hs
    rw [if_neg (by omega), w1, e229, if_neg hn.1, if_neg hn.2]
    exact ⟨by omega, by omega, rv_i h⟩)
/-- the latest bracket -/
theorem l_284_7 (hV : Cl_ wd0 (Tr_ wd0 pg0 d) V Qr Qt m_284) (hW : Wk_ V) {z : Int × Int} {rest : List (Int × Int)} (hz : z.1 = 1 ∨ z.1 = 2) (h : Qr [.inl (rest.length : Int)] M) (pend : List (Int × Int)) (hp : ∀ x, x ∈ pend → x.1 ≠ 1 ∧ x.1 ≠ 2) (hs : stS M (pend ++ z :: rest)) (hl : ((pend ++ z :: rest).length : Int) ≤ 1240) : V 7 [rr 6, ii ((pend ++ z :: rest).length - 1 : Int)] [] M := by
  induction pend with
  | nil =>
    have e : ((([] : List (Int × Int)) ++ z :: rest).length - 1 : Int) = (rest.length : Int) := by simp only [List.nil_append, List.length_cons]; omega
    rw [e]
    simp only [List.nil_append, List.length_cons] at hl
    refine b_284_7 (Tr_mono _) hV hW _ M ?_
    have e1 : M 229 (rest.length : Int) = z.1 := hs.1
    rw [e1]
    refine ⟨by omega, ?_⟩
    by_cases h1 : z.1 = 1
    · rw [if_pos h1]; exact h
    · rw [if_neg h1, if_pos (by omega)]; exact ⟨by omega, h⟩
  | cons x t ih =>
    have e : (((x :: t) ++ z :: rest).length - 1 : Int) = ((t ++ z :: rest).length : Int) := by simp only [List.cons_append, List.length_cons]; omega
    rw [e]
    simp only [List.cons_append, List.length_cons] at hl
    refine b_284_7 (Tr_mono _) hV hW _ M ?_
    have e1 : M 229 ((t ++ z :: rest).length : Int) = x.1 := hs.1
    have hx := hp x (List.mem_cons_self)
    rw [e1, if_neg hx.1, if_neg hx.2]
    refine ⟨by omega, by omega, ?_⟩
    rw [w32_id (by omega) (by omega)]
    exact ih (fun y hy => hp y (List.mem_cons_of_mem _ hy)) hs.2.2 (by omega)
theorem q_284 {z : Int × Int} {rest pend : List (Int × Int)} (hE : QE M (pend ++ z :: rest) ws cm f fm) (hz : z.1 = 1 ∨ z.1 = 2) (hp : ∀ x, x ∈ pend → x.1 ≠ 1 ∧ x.1 ≠ 2) (hl : ((pend ++ z :: rest).length : Int) ≤ 1240) (h : K (rest.length : Int) M) : Tr_ wd0 pg0 (d + 1) 284 [.inr (.inr 6)] M (ri_ K) Qt := t_284 fun V hV hW => b_284_0 (Tr_mono _) hV hW M (by
  have := l_284_7 (M := M) hV hW hz (ri_i h) pend hp hE.2.1 hl
  rw [hE.1, w32_id (by omega) (by omega)]
  exact this)
theorem q_288 {k : Int} (hi : in9_ M) (hk : KQ k (M 149 (M 6 12)) (M 151 (M 6 12))) (h : K (lv_ k) M) : Tr_ wd0 pg0 (d + 2) 288 [.inr (.inr 6)] M (ri_ K) Qt := t_288 fun V hV hW => b_288_0 (Tr_mono _) hV hW M (by
  unfold lv_ at h
  unfold KQ at hk
  by_cases c1 : k = 43
  · rw [if_pos c1] at h
    refine q_229t hi (by omega) (by omega) ?_
    rw [if_neg (by decide)]; exact ri_i h
  rw [if_neg c1] at h
  refine q_229f hi (by omega) ?_
  rw [if_pos rfl]
  by_cases c2 : k = 42
  · rw [if_pos c2] at h
    refine q_229t hi (by omega) (by omega) ?_
    rw [if_neg (by decide)]; exact ri_i h
  rw [if_neg c2] at h
  refine q_229f hi (by omega) ?_
  rw [if_pos rfl]
  by_cases c3 : k = 261
  · rw [if_pos (by omega)] at h
    refine q_237t hi (by omega) (by omega) ?_
    rw [if_neg (by decide)]; exact ri_i h
  refine q_237f hi (by omega) ?_
  rw [if_pos rfl]
  by_cases c4 : k = 111
  · rw [if_pos (by omega)] at h
    refine q_237t hi (by omega) (by omega) ?_
    rw [if_neg (by decide)]; exact ri_i h
  refine q_237f hi (by omega) ?_
  rw [if_pos rfl]
  by_cases c5 : k = 260
  · rw [if_pos (by omega)] at h
    refine q_237t hi (by omega) (by omega) ?_
    rw [if_neg (by decide)]; exact ri_i h
  refine q_237f hi (by omega) ?_
  rw [if_pos rfl]
  by_cases c6 : k = 112
  · rw [if_pos (by omega)] at h
    refine q_237t hi (by omega) (by omega) ?_
    rw [if_neg (by decide)]; exact ri_i h
  refine q_237f hi (by omega) ?_
  rw [if_pos rfl]
  by_cases c7 : k = 262
  · rw [if_pos (by omega)] at h
    refine q_237t hi (by omega) (by omega) ?_
    rw [if_neg (by decide)]; exact ri_i h
  refine q_237f hi (by omega) ?_
  rw [if_pos rfl]
  by_cases c8 : k = 113
  · rw [if_pos (by omega)] at h
    refine q_237t hi (by omega) (by omega) ?_
    rw [if_neg (by decide)]; exact ri_i h
  refine q_237f hi (by omega) ?_
  rw [if_pos rfl]
  rw [if_neg (by omega)] at h
  by_cases c9 : k = 243
  · rw [if_pos (by omega)] at h
    refine q_237t hi (by omega) (by omega) ?_
    rw [if_neg (by decide)]; exact ri_i h
  refine q_237f hi (by omega) ?_
  rw [if_pos rfl]
  by_cases c10 : k = 245
  · rw [if_pos (by omega)] at h
    refine q_237t hi (by omega) (by omega) ?_
    rw [if_neg (by decide)]; exact ri_i h
  refine q_237f hi (by omega) ?_
  rw [if_pos rfl]
  rw [if_neg (by omega)] at h
  by_cases c11 : k = 242
  · rw [if_pos (by omega)] at h
    refine q_237t hi (by omega) (by omega) ?_
    rw [if_neg (by decide)]; exact ri_i h
  refine q_237f hi (by omega) ?_
  rw [if_pos rfl]
  by_cases c12 : k = 247
  · rw [if_pos (by omega)] at h
    refine q_237t hi (by omega) (by omega) ?_
    rw [if_neg (by decide)]; exact ri_i h
  refine q_237f hi (by omega) ?_
  rw [if_pos rfl]
  by_cases c13 : k = 237
  · rw [if_pos (by omega)] at h
    refine q_237t hi (by omega) (by omega) ?_
    rw [if_neg (by decide)]; exact ri_i h
  refine q_237f hi (by omega) ?_
  rw [if_pos rfl]
  rw [if_neg (by omega)] at h
  exact ri_i h)
theorem q_290 {k : Int} (hi : in9_ M) (hk : KQ k (M 149 (M 6 12)) (M 151 (M 6 12))) (hl : lv_ k ≠ 0) (h : K (sh_ k) M) : Tr_ wd0 pg0 (d + 2) 290 [.inr (.inr 6)] M (ri_ K) Qt := t_290 fun V hV hW => b_290_0 (Tr_mono _) hV hW M (by
  have hlv : k = 43 ∨ k = 42 ∨ k = 261 ∨ k = 111 ∨ k = 260 ∨ k = 112 ∨ k = 262 ∨ k = 113 ∨ k = 243 ∨ k = 245 ∨ k = 242 ∨ k = 247 ∨ k = 237 := by
    refine Classical.byContradiction fun h9 => hl ?_
    unfold lv_
    rw [if_neg (by omega), if_neg (by omega), if_neg (by omega), if_neg (by omega), if_neg (by omega)]
  unfold KQ at hk
  by_cases c1 : k = 43
  · refine q_229t hi (by omega) (by omega) ?_
    rw [if_neg (by decide)]
    rw [c1] at h; exact ri_i h
  refine q_229f hi (by omega) ?_
  rw [if_pos rfl]
  by_cases c2 : k = 42
  · refine q_229t hi (by omega) (by omega) ?_
    rw [if_neg (by decide)]
    rw [c2] at h; exact ri_i h
  refine q_229f hi (by omega) ?_
  rw [if_pos rfl]
  refine ⟨hi, ?_⟩
  have ev : M 151 (M 6 12) = k + 146 ∧ (110 ≤ k ∧ k ≤ 115) ∨ M 151 (M 6 12) = k - 200 ∧ 237 ≤ k := by omega
  have ew : w32 (M 151 (M 6 12)) = M 151 (M 6 12) := w32_id (by omega) (by omega)
  rw [ew]
  rcases hlv with e | e | e | e | e | e | e | e | e | e | e | e | e
  · exact absurd e c1
  · exact absurd e c2
  all_goals (rw [e] at h ev)
  · have e2 : M 151 (M 6 12) = 61 := by omega
    rw [e2]; exact ri_i h
  · have e2 : M 151 (M 6 12) = 257 := by omega
    rw [e2]; exact ri_i h
  · have e2 : M 151 (M 6 12) = 60 := by omega
    rw [e2]; exact ri_i h
  · have e2 : M 151 (M 6 12) = 258 := by omega
    rw [e2]; exact ri_i h
  · have e2 : M 151 (M 6 12) = 62 := by omega
    rw [e2]; exact ri_i h
  · have e2 : M 151 (M 6 12) = 259 := by omega
    rw [e2]; exact ri_i h
  · have e2 : M 151 (M 6 12) = 43 := by omega
    rw [e2]; exact ri_i h
  · have e2 : M 151 (M 6 12) = 45 := by omega
    rw [e2]; exact ri_i h
  · have e2 : M 151 (M 6 12) = 42 := by omega
    rw [e2]; exact ri_i h
  · have e2 : M 151 (M 6 12) = 47 := by omega
    rw [e2]; exact ri_i h
  · have e2 : M 151 (M 6 12) = 37 := by omega
    rw [e2]; exact ri_i h)
end QE
end T64_qe
section T65_qe
/-! Q's e's: reducing as a whole; a sign between two; the loop -/
/-- reducing comes from M to M' -/
def Red (d : Nat) (lev : Int) (M M' : mm_) : Prop := ∀ (a1 a2 : Int), 1 ≤ a2 → a2 ≤ lev → ∀ (V : vv_) (Qr : qr_) (Qt : qt_), Cl_ wd0 (Tr_ wd0 pg0 d) V Qr Qt m_286 → Wk_ V → V 11 [rr 6, ii a1, ii a2, none, none, none, none, none, none, none] [] M' → V 11 [rr 6, ii a1, ii a2, none, none, none, none, none, none, none] [] M
theorem Red_rf {d : Nat} {lev : Int} {M : mm_} : Red d lev M M := fun _ _ _ _ _ _ _ _ _ h => h
theorem Red_tr {d : Nat} {l1 l2 l3 : Int} {M M1 M2 : mm_} (h1 : Red d l1 M M1) (h2 : Red d l2 M1 M2) (a : l3 ≤ l1) (b : l3 ≤ l2) : Red d l3 M M2 := fun a1 a2 c1 c2 V Qr Qt hV hW h => h1 a1 a2 c1 (by omega) V Qr Qt hV hW (h2 a1 a2 c1 (by omega) V Qr Qt hV hW h)
theorem Red_le {d : Nat} {l1 l2 : Int} {M M1 : mm_} (h1 : Red d l1 M M1) (a : l2 ≤ l1) : Red d l2 M M1 := fun a1 a2 c1 c2 => h1 a1 a2 c1 (by omega)
/-- how strongly the latest sign binds -/
def tl_ : List (Int × Int) → Int
  | [] => 0
  | x :: _ => lo9_ x.1
/-- how many brackets are open -/
def nb_ : List (Int × Int) → Nat
  | [] => 0
  | x :: t => (if x.1 = 1 ∨ x.1 = 2 then 1 else 0) + nb_ t
theorem nb_ex : ∀ sg : List (Int × Int), 0 < nb_ sg → ∃ pend z rest, sg = pend ++ z :: rest ∧ (z.1 = 1 ∨ z.1 = 2) ∧ ∀ x, x ∈ pend → x.1 ≠ 1 ∧ x.1 ≠ 2
  | [], h => absurd h (by decide)
  | x :: t, h => by
    by_cases hx : x.1 = 1 ∨ x.1 = 2
    · exact ⟨[], x, t, rfl, hx, fun y hy => absurd hy (by simp)⟩
    · unfold nb_ at h
      rw [if_neg hx] at h
      obtain ⟨p, z, r, h1, h2, h3⟩ := nb_ex t (by omega)
      refine ⟨x :: p, z, r, by rw [h1]; rfl, h2, fun y hy => ?_⟩
      rcases List.mem_cons.mp hy with h4 | h4
      · rw [h4]; exact ⟨fun h5 => hx (.inl h5), fun h5 => hx (.inr h5)⟩
      · exact h3 y h4
/-- the sign that would close the latest bracket -/
def cb_ : List (Int × Int) → Int
  | [] => -1
  | x :: t => if x.1 = 1 then 241 else if x.1 = 2 then 293 else cb_ t
theorem cb_app {z : Int × Int} {rest : List (Int × Int)} (hz : z.1 = 1 ∨ z.1 = 2) : ∀ pend : List (Int × Int), (∀ x, x ∈ pend → x.1 ≠ 1 ∧ x.1 ≠ 2) → cb_ (pend ++ z :: rest) = if z.1 = 1 then 241 else 293
  | [], _ => by
    show (if z.1 = 1 then 241 else if z.1 = 2 then 293 else cb_ rest) = _
    by_cases h : z.1 = 1
    · rw [if_pos h, if_pos h]
    · rw [if_neg h, if_neg h, if_pos (by omega)]
  | x :: t, hp => by
    have hx := hp x (List.mem_cons_self)
    show (if x.1 = 1 then 241 else if x.1 = 2 then 293 else cb_ (t ++ z :: rest)) = _
    rw [if_neg hx.1, if_neg hx.2]
    exact cb_app hz t (fun y hy => hp y (List.mem_cons_of_mem _ hy))
theorem cb_nb : ∀ sg : List (Int × Int), nb_ sg = 0 → cb_ sg = -1
  | [], _ => rfl
  | x :: t, h => by
    unfold nb_ at h
    by_cases hx : x.1 = 1 ∨ x.1 = 2
    · rw [if_pos hx] at h; omega
    · rw [if_neg hx] at h
      show (if x.1 = 1 then 241 else if x.1 = 2 then 293 else cb_ t) = _
      rw [if_neg (fun h5 => hx (.inl h5)), if_neg (fun h5 => hx (.inr h5))]
      exact cb_nb t (by omega)
section QE
variable {d : Nat} {M : mm_} {sg : List (Int × Int)} {ws : List (Int × Int × Int)} {cm : List Int} {f : Int} {fm : List (Int × Int)} {K : Int → mm_ → Prop} {Kv : mm_ → Prop} {Qr : qr_} {Qt : qt_} {V : vv_}
theorem l_286_end (hV : Cl_ wd0 (Tr_ wd0 pg0 (d + 1)) V Qr Qt m_286) (hW : Wk_ V) {a1 a2 : Int} (hE : QE M sg ws cm f fm) (hs : (sg.length : Int) ≤ 1240) (ht : tl_ sg < a2) (h : Qr [] M) : V 11 [rr 6, ii a1, ii a2, none, none, none, none, none, none, none] [] M := by
  refine b_286_11 (Tr_mono _) hV hW a1 a2 M ?_
  cases sg with
  | nil =>
    rw [if_pos (by rw [hE.1]; simp)]
    exact h
  | cons x t =>
    have e112 : M 6 112 = (t.length : Int) + 1 := by rw [hE.1]; simp only [List.length_cons]; omega
    have e229 : M 229 (t.length : Int) = x.1 := hE.2.1.1
    simp only [List.length_cons] at hs
    have w1 : w32 (M 6 112 - 1) = (t.length : Int) := by rw [w32_id (by omega) (by omega)]; omega
    rw [if_neg (by omega), w1, e229]
    refine ⟨by omega, q_287 ?_⟩
    rw [if_pos (show lo9_ x.1 < a2 from ht)]
    exact h
theorem q_286 {x lev : Int} {M1 : mm_} (hr : Red (d + 1) lev M M1) (h1 : 1 ≤ lev) (hx : x ≤ lev) (hE : QE M1 sg ws cm f fm) (hs : (sg.length : Int) ≤ 1240) (ht : tl_ sg < x ∨ tl_ sg < 1 ∧ x ≤ 1) (h : Kv M1) : Tr_ wd0 pg0 (d + 2) 286 [.inr (.inr 6), .inl x] M (rv_ Kv) Qt := t_286 fun V hV hW => b_286_0 (Tr_mono _) hV hW x M (by
  by_cases hx1 : x < 1
  · rw [if_pos hx1]
    exact hr x 1 (by omega) h1 V _ _ hV hW (l_286_end hV hW hE hs (by omega) (rv_i h))
  · rw [if_neg hx1]
    exact hr x x (by omega) hx V _ _ hV hW (l_286_end hV hW hE hs (by omega) (rv_i h)))
/-- what stands for a comparison behind a sign -/
def cn_ (lv c : Int) : Int := if lv = 3 then 1 else if lv ≤ 3 then 0 else c
theorem q_289 {k lev c a : Int} {M1 : mm_} (hr : Red (d + 1) lev M M1) (hlv : lv_ k ≠ 0) (hx : lv_ k ≤ lev) (hE : QE M1 sg ws (c :: cm) f fm) (hs : (sg.length : Int) < 1240) (hcm : (cm.length : Int) < 40) (hc : c = 0 ∨ c = 1) (ht : tl_ sg < lv_ k) (ha : M1 6 12 = a) (h0 : 0 ≤ a) (h3 : a < 1200) (hg : go_ M1) (hk : KQ k (M1 149 a) (M1 151 a))
    (h : Kv (nx_ (ho_ (up_ M1 234 (cm.length : Int) (cn_ (lv_ k) c)) (sh_ k) a))) : Tr_ wd0 pg0 (d + 3) 289 [.inr (.inr 6), .inl (lv_ k)] M (rv_ Kv) Qt := t_289 fun V hV hW => b_289_0 (Tr_mono _) hV hW (lv_ k) M (by
  have hr1 : 1 ≤ lv_ k := by
    have : lv_ k = 0 ∨ 1 ≤ lv_ k := by
      unfold lv_; repeat' split
      all_goals omega
    omega
  subst ha
  refine q_286 hr (by omega) hx hE (by omega) (.inl ht) ?_
  have e118 : M1 6 118 = (cm.length : Int) := by have := hE.2.2.2.2.1; simp only [List.length_cons] at this; omega
  have e234 : M1 234 (cm.length : Int) = c := hE.2.2.2.2.2.1.1
  have e112 : M1 6 112 = (sg.length : Int) := hE.1
  rw [e118, e234]
  have fin : ∀ v : Int, v = cn_ (lv_ k) c → Tr_ wd0 pg0 (d + 2) 290 [.inr (.inr 6)] (up_ M1 234 (cm.length : Int) v) (ri_ fun v1 M2 => Tr_ wd0 pg0 (d + 2) 273 [.inr (.inr 6), .inl v1, .inl (M2 6 12)] M2 (rv_ fun M3 => Tr_ wd0 pg0 (d + 2) 230 [.inr (.inr 6)] M3 (rv_ fun M4 => rv_ Kv [] M4) Qt) Qt) Qt := by
    intro v hv
    subst hv
    refine q_290 (k := k) ⟨by rw [up_ne (by decide)]; omega, by rw [up_ne (by decide)]; omega⟩ (by rw [up_ne (by decide), up_ne (by decide), up_ne (by decide)]; exact hk) hlv ?_
    refine q_273 (by rw [up_ne (by decide)]; omega) (by rw [up_ne (by decide)]; omega) ?_
    refine q_230g ?_ ?_ ?_ ?_
    · unfold go_; rw [ho_6 (by decide), ho_6 (by decide), up_ne (by decide)]; exact hg
    · rw [ho_6 (by decide), up_ne (by decide)]; exact h0
    · rw [ho_6 (by decide), up_ne (by decide)]; exact h3
    · rw [up_ne (by decide)]; exact rv_i h
  by_cases c1 : lv_ k = 3
  · rw [if_pos c1]
    refine ⟨⟨by omega, .inr rfl⟩, fin 1 ?_⟩
    unfold cn_; rw [if_pos c1]
  · rw [if_neg c1]
    by_cases c2 : lv_ k ≤ 3
    · rw [if_pos c2]
      refine ⟨⟨by omega, .inl rfl⟩, fin 0 ?_⟩
      unfold cn_; rw [if_neg c1, if_pos c2]
    · rw [if_neg c2]
      have ec : c = cn_ (lv_ k) c := by unfold cn_; rw [if_neg c1, if_neg c2]
      refine ⟨by omega, fun _ => ?_⟩
      by_cases c3 : c = 0
      · rw [if_pos c3]
        exact ⟨⟨by omega, .inl rfl⟩, fin 0 (by rw [← ec]; exact c3.symm)⟩
      · rw [if_neg c3]
        exact ⟨⟨by omega, .inr rfl⟩, fin 1 (by rw [← ec]; omega)⟩)
/-- in the loop, behind an operand: no closing bracket here -/
theorem l_271_26n (hV : Cl_ wd0 (Tr_ wd0 pg0 (d + 2)) V Qr Qt m_271) (hW : Wk_ V) {k a : Int} (hE : QE M sg ws cm f fm) (hs : (sg.length : Int) ≤ 1240) (hn : cm.length = nb_ sg + 1) (hg : go_ M) (ha : M 6 12 = a) (h0 : 0 ≤ a) (h3 : a < 1202) (hk : KQ k (M 149 a) (M 151 a)) (hc : k ≠ cb_ sg) (h : V 90 [rr 6, ii 1, ii 1, none] [] M) : V 26 [rr 6, ii 1, ii 1, none] [] M := by
  subst ha
  refine b_271_26 (Tr_mono _) hV hW 1 1 M ?_
  rw [if_neg (by decide)]
  refine q_227g hg ?_
  rw [if_pos rfl, if_neg (by decide)]
  have e118 : M 6 118 = (nb_ sg : Int) := by have := hE.2.2.2.2.1; rw [hn] at this; push_cast at this; omega
  by_cases c1 : M 6 118 ≤ 0
  · rw [if_pos c1]; exact h
  · rw [if_neg c1]
    obtain ⟨p, z, r, h1, h2, h4⟩ := nb_ex sg (by omega)
    rw [h1] at hE hs hc
    have hlen : (r.length : Int) < 1240 := by simp only [List.length_append, List.length_cons] at hs; push_cast at hs; omega
    refine q_284 hE h2 h4 hs ?_
    have ez : M 229 (r.length : Int) = z.1 := by
      have : ∀ p : List (Int × Int), stS M (p ++ z :: r) → M 229 (r.length : Int) = z.1 := by
        intro p
        induction p with
        | nil => intro h9; exact h9.1
        | cons y t ih => intro h9; exact ih h9.2.2
      exact this p hE.2.1
    rw [ez]
    refine ⟨by omega, ?_⟩
    rw [cb_app h2 p h4] at hc
    unfold KQ at hk
    by_cases c2 : z.1 = 1
    · rw [if_pos c2]; rw [if_pos c2] at hc
      refine q_237f ⟨h0, h3⟩ (by omega) ?_
      rw [if_pos rfl]; exact h
    · rw [if_neg c2]; rw [if_neg c2] at hc
      refine q_237f ⟨h0, h3⟩ (by omega) ?_
      rw [if_pos rfl]; exact h
/-- a closing bracket here -/
theorem l_271_26c (hV : Cl_ wd0 (Tr_ wd0 pg0 (d + 2)) V Qr Qt m_271) (hW : Wk_ V) {k a : Int} (hE : QE M sg ws cm f fm) (hs : (sg.length : Int) ≤ 1240) (hn : cm.length = nb_ sg + 1) (hg : go_ M) (ha : M 6 12 = a) (h0 : 0 ≤ a) (h3 : a < 1202) (hk : KQ k (M 149 a) (M 151 a)) (hk0 : 0 ≤ k) (hc : k = cb_ sg) (h : Tr_ wd0 pg0 (d + 2) 285 [.inr (.inr 6)] M (rv_ fun M6 => V 26 [rr 6, ii 1, ii 1, none] [] M6) Qt) : V 26 [rr 6, ii 1, ii 1, none] [] M := by
  subst ha
  refine b_271_26 (Tr_mono _) hV hW 1 1 M ?_
  rw [if_neg (by decide)]
  refine q_227g hg ?_
  rw [if_pos rfl, if_neg (by decide)]
  have e118 : M 6 118 = (nb_ sg : Int) := by have := hE.2.2.2.2.1; rw [hn] at this; push_cast at this; omega
  have c1 : ¬ M 6 118 ≤ 0 := by
    intro h9
    have := cb_nb sg (by omega)
    omega
  rw [if_neg c1]
  obtain ⟨p, z, r, h1, h2, h4⟩ := nb_ex sg (by omega)
  rw [h1] at hE hs hc
  have hlen : (r.length : Int) < 1240 := by simp only [List.length_append, List.length_cons] at hs; push_cast at hs; omega
  refine q_284 hE h2 h4 hs ?_
  have ez : M 229 (r.length : Int) = z.1 := by
    have : ∀ p : List (Int × Int), stS M (p ++ z :: r) → M 229 (r.length : Int) = z.1 := by
      intro p
      induction p with
      | nil => intro h9; exact h9.1
      | cons y t ih => intro h9; exact ih h9.2.2
    exact this p hE.2.1
  rw [ez]
  refine ⟨by omega, ?_⟩
  rw [cb_app h2 p h4] at hc
  unfold KQ at hk
  by_cases c2 : z.1 = 1
  · rw [if_pos c2]; rw [if_pos c2] at hc
    refine q_237t ⟨h0, h3⟩ (by omega) (by omega) ?_
    rw [if_neg (by decide)]; exact h
  · rw [if_neg c2]; rw [if_neg c2] at hc
    refine q_237t ⟨h0, h3⟩ (by omega) (by omega) ?_
    rw [if_neg (by decide)]; exact h
/-- a sign between two -/
theorem l_271_90b (hV : Cl_ wd0 (Tr_ wd0 pg0 (d + 3)) V Qr Qt m_271) (hW : Wk_ V) {k a : Int} (hi : in9_ M) (ha : M 6 12 = a) (hk : KQ k (M 149 a) (M 151 a)) (hlv : lv_ k ≠ 0) (hc : lv_ k = 3 → 0 ≤ M 6 118 ∧ M 6 118 < 40 ∧ M 234 (M 6 118) = 0) (h : Tr_ wd0 pg0 (d + 3) 289 [.inr (.inr 6), .inl (lv_ k)] M (rv_ fun M4 => V 26 [rr 6, ii 0, ii 1, none] [] M4) Qt) : V 90 [rr 6, ii 1, ii 1, none] [] M := by
  subst ha
  refine b_271_90 (Tr_mono _) hV hW 1 1 M ?_
  refine q_288 hi hk ?_
  rw [if_neg hlv]
  by_cases c1 : lv_ k = 3
  · rw [if_pos c1]
    have := hc c1
    rw [if_pos this.2.2]
    exact ⟨⟨this.1, this.2.1⟩, fun _ => h⟩
  · rw [if_neg c1]; exact h
/-- no sign that binds: the e ends; within brackets that is wrong -/
theorem l_271_90e (hV : Cl_ wd0 (Tr_ wd0 pg0 (d + 3)) V Qr Qt m_271) (hW : Wk_ V) {k a : Int} (hi : in9_ M) (ha : M 6 12 = a) (hk : KQ k (M 149 a) (M 151 a)) (hc : lv_ k = 0 ∨ lv_ k = 3 ∧ 0 ≤ M 6 118 ∧ M 6 118 < 40 ∧ M 234 (M 6 118) ≠ 0) (hn : M 6 118 ≤ 0 → V 26 [rr 6, ii 1, ii 0, none] [] M) (hw : 0 < M 6 118 → M 6 13 = 0 ∧ V 26 [rr 6, ii 1, ii 0, none] [] (bf_ M 1 (M 150 a))) : V 90 [rr 6, ii 1, ii 1, none] [] M := by
  subst ha
  refine b_271_90 (Tr_mono _) hV hW 1 1 M ?_
  refine q_288 hi hk ?_
  have fin : (if M 6 118 ≤ 0 then V 26 [rr 6, ii 1, ii 0, none] [] M else Tr_ wd0 pg0 (d + 3) 234 [.inr (.inr 6)] M (rv_ fun M2 => V 26 [rr 6, ii 1, ii 0, none] [] M2) Qt) := by
    by_cases c2 : M 6 118 ≤ 0
    · rw [if_pos c2]; exact hn c2
    · rw [if_neg c2]
      have := hw (by omega)
      exact q_234o hi this.1 this.2
  by_cases c1 : lv_ k = 0
  · rw [if_pos c1]; exact fin
  · rw [if_neg c1]
    have := hc.resolve_left c1
    rw [if_pos this.1, if_neg this.2.2.2]
    exact ⟨⟨this.2.1, this.2.2.1⟩, fun _ => fin⟩
end QE
end T65_qe
section T66_nm
/-! looking names up -/
/-- the first place at which g has v, from k on, among so many; none: -1 -/
def fi_ (g : Int → Int) (v : Int) : Nat → Int → Int
  | 0, _ => -1
  | n + 1, k => if g k = v then k else fi_ g v n (k + 1)
theorem fi_r (g : Int → Int) (v : Int) : ∀ (n : Nat) (k : Int), fi_ g v n k = -1 ∨ (k ≤ fi_ g v n k ∧ fi_ g v n k < k + n ∧ g (fi_ g v n k) = v)
  | 0, k => .inl rfl
  | n + 1, k => by
    unfold fi_
    split
    · rename_i h; exact .inr ⟨Int.le_refl _, by omega, h⟩
    · rcases fi_r g v n (k + 1) with h | h
      · exact .inl h
      · exact .inr ⟨by omega, by omega, h.2.2⟩
theorem fi_no (g : Int → Int) (v : Int) : ∀ (n : Nat) (k : Int), fi_ g v n k = -1 → 0 ≤ k → ∀ i, k ≤ i → i < k + n → g i ≠ v
  | 0, k, _, _, i, h1, h2 => by omega
  | n + 1, k, h, h0, i, h1, h2 => by
    unfold fi_ at h
    split at h
    · omega
    · rename_i h3
      by_cases h4 : i = k
      · rw [h4]; exact h3
      · exact fi_no g v n (k + 1) h (by omega) i (by omega) (by omega)
theorem fi_cg {g g' : Int → Int} {v v' : Int} : ∀ (n : Nat) (k : Int), (∀ i, k ≤ i → i < k + n → (g i = v ↔ g' i = v')) → fi_ g v n k = fi_ g' v' n k
  | 0, _, _ => rfl
  | n + 1, k, h => by
    unfold fi_
    rw [fi_cg n (k + 1) (fun i h1 h2 => h i (by omega) (by omega))]
    by_cases h1 : g k = v
    · rw [if_pos h1, if_pos ((h k (Int.le_refl _) (by omega)).mp h1)]
    · rw [if_neg h1, if_neg (fun h2 => h1 ((h k (Int.le_refl _) (by omega)).mpr h2))]
def tk9_ (M : mm_) (x : Int) : Prop := 0 ≤ x ∧ x < 1202 ∧ 0 ≤ M 71 x ∧ M 71 x ≤ M 72 x ∧ M 72 x ≤ 5000
section NM
variable {d : Nat} {M : mm_} {K : Int → mm_ → Prop} {Qr : qr_} {Qt : qt_} {V : vv_}
theorem x_199 {x y : Int} (hx : tk9_ M x) (hy : tk9_ M y) (ht : lk9_ M x y → K 1 M) (hf : ¬ lk9_ M x y → K 0 M) : Tr_ wd0 pg0 (d + 1) 199 [.inr (.inr 2), .inl x, .inl y] M (ri_ K) Qt :=
  s_199a ⟨hx.1, hx.2.1⟩ ⟨hy.1, hy.2.1⟩ hx.2.2.1 hx.2.2.2.1 hx.2.2.2.2 hy.2.2.1 hy.2.2.2.1 hy.2.2.2.2 (fun h1 h2 => ht ⟨h1, h2⟩) hf
theorem l_113a (hV : Cl_ wd0 (Tr_ wd0 pg0 (d + 1)) V Qr Qt m_113) (hW : Wk_ V) {b t : Int} {η : Int → Int} {m : Nat} (h0 : 0 ≤ b) (hz : b + m ≤ 20) (ht : tk9_ M t) (hn : ∀ k, b ≤ k → k < b + m → tk9_ M (M 56 k) ∧ (lk9_ M (M 56 k) t ↔ η (M 56 k) = η t)) :
    ∀ (n : Nat) (k : Int), 0 ≤ k → k + n = m → Qr [.inl (fi_ (fun i => η (M 56 (b + i))) (η t) n k)] M → V 3 [rr 1, rr 56, ii b, ii (m : Int), ii t, ii (b + k)] [] M := by
  intro n
  induction n with
  | zero =>
    intro k hk he h
    refine b_113a_3 (Tr_mono _) hV hW b _ t _ M ?_
    rw [w32_id (by omega) (by omega), if_neg (by omega)]
    exact h
  | succ n ih =>
    intro k hk he h
    refine b_113a_3 (Tr_mono _) hV hW b _ t _ M ?_
    rw [w32_id (by omega) (by omega), if_pos (by omega)]
    have hk1 := hn (b + k) (by omega) (by omega)
    unfold fi_ at h
    refine ⟨by omega, x_199 hk1.1 ht (fun h1 => ?_) (fun h1 => ?_)⟩
    · rw [if_neg (by decide)]
      rw [if_pos (hk1.2.mp h1)] at h
      have : w32 (b + k - b) = k := by rw [w32_id (by omega) (by omega)]; omega
      rw [this]; exact h
    · rw [if_pos rfl]
      rw [if_neg (fun h2 => h1 (hk1.2.mpr h2))] at h
      have : w32 (b + k + 1) = b + (k + 1) := by rw [w32_id (by omega) (by omega)]; omega
      rw [this]
      exact ih (k + 1) (by omega) (by omega) h
theorem x_113a {b t : Int} {η : Int → Int} {m : Nat} (h0 : 0 ≤ b) (hz : b + m ≤ 20) (ht : tk9_ M t) (hn : ∀ k, b ≤ k → k < b + m → tk9_ M (M 56 k) ∧ (lk9_ M (M 56 k) t ↔ η (M 56 k) = η t)) (h : K (fi_ (fun i => η (M 56 (b + i))) (η t) m 0) M) : Tr_ wd0 pg0 (d + 2) 113 [.inr (.inr 1), .inr (.inr 56), .inl b, .inl (m : Int), .inl t] M (ri_ K) Qt := t_113a fun V hV hW => b_113a_0 (Tr_mono _) hV hW b _ t M (by
  have := l_113a hV hW h0 hz ht hn m 0 (by omega) (by omega) (ri_i h)
  rw [Int.add_zero] at this
  exact this)
theorem l_113b (hV : Cl_ wd0 (Tr_ wd0 pg0 (d + 1)) V Qr Qt m_113) (hW : Wk_ V) {b t : Int} {η : Int → Int} {m : Nat} (h0 : 0 ≤ b) (hz : b + m ≤ 10) (ht : tk9_ M t) (hn : ∀ k, b ≤ k → k < b + m → tk9_ M (M 57 k) ∧ (lk9_ M (M 57 k) t ↔ η (M 57 k) = η t)) :
    ∀ (n : Nat) (k : Int), 0 ≤ k → k + n = m → Qr [.inl (fi_ (fun i => η (M 57 (b + i))) (η t) n k)] M → V 3 [rr 1, rr 57, ii b, ii (m : Int), ii t, ii (b + k)] [] M := by
  intro n
  induction n with
  | zero =>
    intro k hk he h
    refine b_113b_3 (Tr_mono _) hV hW b _ t _ M ?_
    rw [w32_id (by omega) (by omega), if_neg (by omega)]
    exact h
  | succ n ih =>
    intro k hk he h
    refine b_113b_3 (Tr_mono _) hV hW b _ t _ M ?_
    rw [w32_id (by omega) (by omega), if_pos (by omega)]
    have hk1 := hn (b + k) (by omega) (by omega)
    unfold fi_ at h
    refine ⟨by omega, x_199 hk1.1 ht (fun h1 => ?_) (fun h1 => ?_)⟩
    · rw [if_neg (by decide)]
      rw [if_pos (hk1.2.mp h1)] at h
      have : w32 (b + k - b) = k := by rw [w32_id (by omega) (by omega)]; omega
      rw [this]; exact h
    · rw [if_pos rfl]
      rw [if_neg (fun h2 => h1 (hk1.2.mpr h2))] at h
      have : w32 (b + k + 1) = b + (k + 1) := by rw [w32_id (by omega) (by omega)]; omega
      rw [this]
      exact ih (k + 1) (by omega) (by omega) h
theorem x_113b {b t : Int} {η : Int → Int} {m : Nat} (h0 : 0 ≤ b) (hz : b + m ≤ 10) (ht : tk9_ M t) (hn : ∀ k, b ≤ k → k < b + m → tk9_ M (M 57 k) ∧ (lk9_ M (M 57 k) t ↔ η (M 57 k) = η t)) (h : K (fi_ (fun i => η (M 57 (b + i))) (η t) m 0) M) : Tr_ wd0 pg0 (d + 2) 113 [.inr (.inr 1), .inr (.inr 57), .inl b, .inl (m : Int), .inl t] M (ri_ K) Qt := t_113b fun V hV hW => b_113b_0 (Tr_mono _) hV hW b _ t M (by
  have := l_113b hV hW h0 hz ht hn m 0 (by omega) (by omega) (ri_i h)
  rw [Int.add_zero] at this
  exact this)
theorem l_113c (hV : Cl_ wd0 (Tr_ wd0 pg0 (d + 1)) V Qr Qt m_113) (hW : Wk_ V) {b t : Int} {η : Int → Int} {m : Nat} (h0 : 0 ≤ b) (hz : b + m ≤ 6) (ht : tk9_ M t) (hn : ∀ k, b ≤ k → k < b + m → tk9_ M (M 58 k) ∧ (lk9_ M (M 58 k) t ↔ η (M 58 k) = η t)) :
    ∀ (n : Nat) (k : Int), 0 ≤ k → k + n = m → Qr [.inl (fi_ (fun i => η (M 58 (b + i))) (η t) n k)] M → V 3 [rr 1, rr 58, ii b, ii (m : Int), ii t, ii (b + k)] [] M := by
  intro n
  induction n with
  | zero =>
    intro k hk he h
    refine b_113c_3 (Tr_mono _) hV hW b _ t _ M ?_
    rw [w32_id (by omega) (by omega), if_neg (by omega)]
    exact h
  | succ n ih =>
    intro k hk he h
    refine b_113c_3 (Tr_mono _) hV hW b _ t _ M ?_
    rw [w32_id (by omega) (by omega), if_pos (by omega)]
    have hk1 := hn (b + k) (by omega) (by omega)
    unfold fi_ at h
    refine ⟨by omega, x_199 hk1.1 ht (fun h1 => ?_) (fun h1 => ?_)⟩
    · rw [if_neg (by decide)]
      rw [if_pos (hk1.2.mp h1)] at h
      have : w32 (b + k - b) = k := by rw [w32_id (by omega) (by omega)]; omega
      rw [this]; exact h
    · rw [if_pos rfl]
      rw [if_neg (fun h2 => h1 (hk1.2.mpr h2))] at h
      have : w32 (b + k + 1) = b + (k + 1) := by rw [w32_id (by omega) (by omega)]; omega
      rw [this]
      exact ih (k + 1) (by omega) (by omega) h
theorem x_113c {b t : Int} {η : Int → Int} {m : Nat} (h0 : 0 ≤ b) (hz : b + m ≤ 6) (ht : tk9_ M t) (hn : ∀ k, b ≤ k → k < b + m → tk9_ M (M 58 k) ∧ (lk9_ M (M 58 k) t ↔ η (M 58 k) = η t)) (h : K (fi_ (fun i => η (M 58 (b + i))) (η t) m 0) M) : Tr_ wd0 pg0 (d + 2) 113 [.inr (.inr 1), .inr (.inr 58), .inl b, .inl (m : Int), .inl t] M (ri_ K) Qt := t_113c fun V hV hW => b_113c_0 (Tr_mono _) hV hW b _ t M (by
  have := l_113c hV hW h0 hz ht hn m 0 (by omega) (by omega) (ri_i h)
  rw [Int.add_zero] at this
  exact this)
theorem l_113d (hV : Cl_ wd0 (Tr_ wd0 pg0 (d + 1)) V Qr Qt m_113) (hW : Wk_ V) {b t : Int} {η : Int → Int} {m : Nat} (h0 : 0 ≤ b) (hz : b + m ≤ 72) (ht : tk9_ M t) (hn : ∀ k, b ≤ k → k < b + m → tk9_ M (M 59 k) ∧ (lk9_ M (M 59 k) t ↔ η (M 59 k) = η t)) :
    ∀ (n : Nat) (k : Int), 0 ≤ k → k + n = m → Qr [.inl (fi_ (fun i => η (M 59 (b + i))) (η t) n k)] M → V 3 [rr 1, rr 59, ii b, ii (m : Int), ii t, ii (b + k)] [] M := by
  intro n
  induction n with
  | zero =>
    intro k hk he h
    refine b_113d_3 (Tr_mono _) hV hW b _ t _ M ?_
    rw [w32_id (by omega) (by omega), if_neg (by omega)]
    exact h
  | succ n ih =>
    intro k hk he h
    refine b_113d_3 (Tr_mono _) hV hW b _ t _ M ?_
    rw [w32_id (by omega) (by omega), if_pos (by omega)]
    have hk1 := hn (b + k) (by omega) (by omega)
    unfold fi_ at h
    refine ⟨by omega, x_199 hk1.1 ht (fun h1 => ?_) (fun h1 => ?_)⟩
    · rw [if_neg (by decide)]
      rw [if_pos (hk1.2.mp h1)] at h
      have : w32 (b + k - b) = k := by rw [w32_id (by omega) (by omega)]; omega
      rw [this]; exact h
    · rw [if_pos rfl]
      rw [if_neg (fun h2 => h1 (hk1.2.mpr h2))] at h
      have : w32 (b + k + 1) = b + (k + 1) := by rw [w32_id (by omega) (by omega)]; omega
      rw [this]
      exact ih (k + 1) (by omega) (by omega) h
theorem x_113d {b t : Int} {η : Int → Int} {m : Nat} (h0 : 0 ≤ b) (hz : b + m ≤ 72) (ht : tk9_ M t) (hn : ∀ k, b ≤ k → k < b + m → tk9_ M (M 59 k) ∧ (lk9_ M (M 59 k) t ↔ η (M 59 k) = η t)) (h : K (fi_ (fun i => η (M 59 (b + i))) (η t) m 0) M) : Tr_ wd0 pg0 (d + 2) 113 [.inr (.inr 1), .inr (.inr 59), .inl b, .inl (m : Int), .inl t] M (ri_ K) Qt := t_113d fun V hV hW => b_113d_0 (Tr_mono _) hV hW b _ t M (by
  have := l_113d hV hW h0 hz ht hn m 0 (by omega) (by omega) (ri_i h)
  rw [Int.add_zero] at this
  exact this)
theorem l_113e (hV : Cl_ wd0 (Tr_ wd0 pg0 (d + 1)) V Qr Qt m_113) (hW : Wk_ V) {b t : Int} {η : Int → Int} {m : Nat} (h0 : 0 ≤ b) (hz : b + m ≤ 48) (ht : tk9_ M t) (hn : ∀ k, b ≤ k → k < b + m → tk9_ M (M 60 k) ∧ (lk9_ M (M 60 k) t ↔ η (M 60 k) = η t)) :
    ∀ (n : Nat) (k : Int), 0 ≤ k → k + n = m → Qr [.inl (fi_ (fun i => η (M 60 (b + i))) (η t) n k)] M → V 3 [rr 1, rr 60, ii b, ii (m : Int), ii t, ii (b + k)] [] M := by
  intro n
  induction n with
  | zero =>
    intro k hk he h
    refine b_113e_3 (Tr_mono _) hV hW b _ t _ M ?_
    rw [w32_id (by omega) (by omega), if_neg (by omega)]
    exact h
  | succ n ih =>
    intro k hk he h
    refine b_113e_3 (Tr_mono _) hV hW b _ t _ M ?_
    rw [w32_id (by omega) (by omega), if_pos (by omega)]
    have hk1 := hn (b + k) (by omega) (by omega)
    unfold fi_ at h
    refine ⟨by omega, x_199 hk1.1 ht (fun h1 => ?_) (fun h1 => ?_)⟩
    · rw [if_neg (by decide)]
      rw [if_pos (hk1.2.mp h1)] at h
      have : w32 (b + k - b) = k := by rw [w32_id (by omega) (by omega)]; omega
      rw [this]; exact h
    · rw [if_pos rfl]
      rw [if_neg (fun h2 => h1 (hk1.2.mpr h2))] at h
      have : w32 (b + k + 1) = b + (k + 1) := by rw [w32_id (by omega) (by omega)]; omega
      rw [this]
      exact ih (k + 1) (by omega) (by omega) h
theorem x_113e {b t : Int} {η : Int → Int} {m : Nat} (h0 : 0 ≤ b) (hz : b + m ≤ 48) (ht : tk9_ M t) (hn : ∀ k, b ≤ k → k < b + m → tk9_ M (M 60 k) ∧ (lk9_ M (M 60 k) t ↔ η (M 60 k) = η t)) (h : K (fi_ (fun i => η (M 60 (b + i))) (η t) m 0) M) : Tr_ wd0 pg0 (d + 2) 113 [.inr (.inr 1), .inr (.inr 60), .inl b, .inl (m : Int), .inl t] M (ri_ K) Qt := t_113e fun V hV hW => b_113e_0 (Tr_mono _) hV hW b _ t M (by
  have := l_113e hV hW h0 hz ht hn m 0 (by omega) (by omega) (ri_i h)
  rw [Int.add_zero] at this
  exact this)
theorem l_113f (hV : Cl_ wd0 (Tr_ wd0 pg0 (d + 1)) V Qr Qt m_113) (hW : Wk_ V) {b t : Int} {η : Int → Int} {m : Nat} (h0 : 0 ≤ b) (hz : b + m ≤ 18) (ht : tk9_ M t) (hn : ∀ k, b ≤ k → k < b + m → tk9_ M (M 61 k) ∧ (lk9_ M (M 61 k) t ↔ η (M 61 k) = η t)) :
    ∀ (n : Nat) (k : Int), 0 ≤ k → k + n = m → Qr [.inl (fi_ (fun i => η (M 61 (b + i))) (η t) n k)] M → V 3 [rr 1, rr 61, ii b, ii (m : Int), ii t, ii (b + k)] [] M := by
  intro n
  induction n with
  | zero =>
    intro k hk he h
    refine b_113f_3 (Tr_mono _) hV hW b _ t _ M ?_
    rw [w32_id (by omega) (by omega), if_neg (by omega)]
    exact h
  | succ n ih =>
    intro k hk he h
    refine b_113f_3 (Tr_mono _) hV hW b _ t _ M ?_
    rw [w32_id (by omega) (by omega), if_pos (by omega)]
    have hk1 := hn (b + k) (by omega) (by omega)
    unfold fi_ at h
    refine ⟨by omega, x_199 hk1.1 ht (fun h1 => ?_) (fun h1 => ?_)⟩
    · rw [if_neg (by decide)]
      rw [if_pos (hk1.2.mp h1)] at h
      have : w32 (b + k - b) = k := by rw [w32_id (by omega) (by omega)]; omega
      rw [this]; exact h
    · rw [if_pos rfl]
      rw [if_neg (fun h2 => h1 (hk1.2.mpr h2))] at h
      have : w32 (b + k + 1) = b + (k + 1) := by rw [w32_id (by omega) (by omega)]; omega
      rw [this]
      exact ih (k + 1) (by omega) (by omega) h
theorem x_113f {b t : Int} {η : Int → Int} {m : Nat} (h0 : 0 ≤ b) (hz : b + m ≤ 18) (ht : tk9_ M t) (hn : ∀ k, b ≤ k → k < b + m → tk9_ M (M 61 k) ∧ (lk9_ M (M 61 k) t ↔ η (M 61 k) = η t)) (h : K (fi_ (fun i => η (M 61 (b + i))) (η t) m 0) M) : Tr_ wd0 pg0 (d + 2) 113 [.inr (.inr 1), .inr (.inr 61), .inl b, .inl (m : Int), .inl t] M (ri_ K) Qt := t_113f fun V hV hW => b_113f_0 (Tr_mono _) hV hW b _ t M (by
  have := l_113f hV hW h0 hz ht hn m 0 (by omega) (by omega) (ri_i h)
  rw [Int.add_zero] at this
  exact this)
theorem l_113g (hV : Cl_ wd0 (Tr_ wd0 pg0 (d + 1)) V Qr Qt m_113) (hW : Wk_ V) {b t : Int} {η : Int → Int} {m : Nat} (h0 : 0 ≤ b) (hz : b + m ≤ 60) (ht : tk9_ M t) (hn : ∀ k, b ≤ k → k < b + m → tk9_ M (M 62 k) ∧ (lk9_ M (M 62 k) t ↔ η (M 62 k) = η t)) :
    ∀ (n : Nat) (k : Int), 0 ≤ k → k + n = m → Qr [.inl (fi_ (fun i => η (M 62 (b + i))) (η t) n k)] M → V 3 [rr 1, rr 62, ii b, ii (m : Int), ii t, ii (b + k)] [] M := by
  intro n
  induction n with
  | zero =>
    intro k hk he h
    refine b_113g_3 (Tr_mono _) hV hW b _ t _ M ?_
    rw [w32_id (by omega) (by omega), if_neg (by omega)]
    exact h
  | succ n ih =>
    intro k hk he h
    refine b_113g_3 (Tr_mono _) hV hW b _ t _ M ?_
    rw [w32_id (by omega) (by omega), if_pos (by omega)]
    have hk1 := hn (b + k) (by omega) (by omega)
    unfold fi_ at h
    refine ⟨by omega, x_199 hk1.1 ht (fun h1 => ?_) (fun h1 => ?_)⟩
    · rw [if_neg (by decide)]
      rw [if_pos (hk1.2.mp h1)] at h
      have : w32 (b + k - b) = k := by rw [w32_id (by omega) (by omega)]; omega
      rw [this]; exact h
    · rw [if_pos rfl]
      rw [if_neg (fun h2 => h1 (hk1.2.mpr h2))] at h
      have : w32 (b + k + 1) = b + (k + 1) := by rw [w32_id (by omega) (by omega)]; omega
      rw [this]
      exact ih (k + 1) (by omega) (by omega) h
theorem x_113g {b t : Int} {η : Int → Int} {m : Nat} (h0 : 0 ≤ b) (hz : b + m ≤ 60) (ht : tk9_ M t) (hn : ∀ k, b ≤ k → k < b + m → tk9_ M (M 62 k) ∧ (lk9_ M (M 62 k) t ↔ η (M 62 k) = η t)) (h : K (fi_ (fun i => η (M 62 (b + i))) (η t) m 0) M) : Tr_ wd0 pg0 (d + 2) 113 [.inr (.inr 1), .inr (.inr 62), .inl b, .inl (m : Int), .inl t] M (ri_ K) Qt := t_113g fun V hV hW => b_113g_0 (Tr_mono _) hV hW b _ t M (by
  have := l_113g hV hW h0 hz ht hn m 0 (by omega) (by omega) (ri_i h)
  rw [Int.add_zero] at this
  exact this)
theorem x_112 {t : Int} {η : Int → Int} {m : Nat} (h2 : M 1 2 = 5) (hm : M 5 0 = m) (hz : (m : Int) ≤ 20) (ht : tk9_ M t) (hn : ∀ k : Int, 0 ≤ k → k < m → tk9_ M (M 56 k) ∧ (lk9_ M (M 56 k) t ↔ η (M 56 k) = η t)) (h : K (fi_ (fun i => η (M 56 i)) (η t) m 0) M) : Tr_ wd0 pg0 (d + 3) 112 [.inr (.inr 1), .inl t] M (ri_ K) Qt := t_112 fun V hV hW => b_112_0 (Tr_mono _) hV hW t M ⟨h2, by
  rw [hm]
  refine x_113a (η := η) (Int.le_refl _) (by omega) ht (fun k h1 h3 => hn k h1 (by omega)) (ri_i ?_)
  simp only [Int.zero_add]
  exact h⟩
theorem x_114 {t : Int} {η : Int → Int} {m : Nat} (h2 : M 1 2 = 5) (hm : M 5 1 = m) (hz : (m : Int) ≤ 10) (ht : tk9_ M t) (hn : ∀ k : Int, 0 ≤ k → k < m → tk9_ M (M 57 k) ∧ (lk9_ M (M 57 k) t ↔ η (M 57 k) = η t)) (h : K (fi_ (fun i => η (M 57 i)) (η t) m 0) M) : Tr_ wd0 pg0 (d + 3) 114 [.inr (.inr 1), .inl t] M (ri_ K) Qt := t_114 fun V hV hW => b_114_0 (Tr_mono _) hV hW t M ⟨h2, by
  rw [hm]
  refine x_113b (η := η) (Int.le_refl _) (by omega) ht (fun k h1 h3 => hn k h1 (by omega)) (ri_i ?_)
  simp only [Int.zero_add]
  exact h⟩
theorem x_115 {t : Int} {η : Int → Int} {m : Nat} (h2 : M 1 2 = 5) (hm : M 5 2 = m) (hz : (m : Int) ≤ 6) (ht : tk9_ M t) (hn : ∀ k : Int, 0 ≤ k → k < m → tk9_ M (M 58 k) ∧ (lk9_ M (M 58 k) t ↔ η (M 58 k) = η t)) (h : K (fi_ (fun i => η (M 58 i)) (η t) m 0) M) : Tr_ wd0 pg0 (d + 3) 115 [.inr (.inr 1), .inl t] M (ri_ K) Qt := t_115 fun V hV hW => b_115_0 (Tr_mono _) hV hW t M ⟨h2, by
  rw [hm]
  refine x_113c (η := η) (Int.le_refl _) (by omega) ht (fun k h1 h3 => hn k h1 (by omega)) (ri_i ?_)
  simp only [Int.zero_add]
  exact h⟩
theorem x_128 {t : Int} {η : Int → Int} {m : Nat} (h2 : M 1 2 = 5) (h3 : 0 ≤ M 1 18) (h4 : M 1 18 < 6) (hm : M 124 (M 1 18) = m) (hz : (m : Int) ≤ 8) (ht : tk9_ M t) (hn : ∀ k : Int, 0 ≤ k → k < m → tk9_ M (M 60 (8 * M 1 18 + k)) ∧ (lk9_ M (M 60 (8 * M 1 18 + k)) t ↔ η (M 60 (8 * M 1 18 + k)) = η t)) (h : K (fi_ (fun i => η (M 60 (8 * M 1 18 + i))) (η t) m 0) M) : Tr_ wd0 pg0 (d + 3) 128 [.inr (.inr 1), .inl t] M (ri_ K) Qt := t_128 fun V hV hW => b_128_0 (Tr_mono _) hV hW t M ⟨h2, ⟨h3, h4⟩, by
  rw [hm, w32_id (by omega) (by omega)]
  refine x_113e (η := η) (by omega) (by omega) ht (fun k h1 h5 => ?_) (ri_i h)
  have := hn (k - 8 * M 1 18) (by omega) (by omega)
  have e : 8 * M 1 18 + (k - 8 * M 1 18) = k := by omega
  rw [e] at this
  exact this⟩
theorem x_129 {t : Int} {η : Int → Int} {m : Nat} (h2 : M 1 2 = 5) (h3 : 0 ≤ M 1 18) (h4 : M 1 18 < 6) (hm : M 126 (M 1 18) = m) (hz : (m : Int) ≤ 3) (ht : tk9_ M t) (hn : ∀ k : Int, 0 ≤ k → k < m → tk9_ M (M 61 (3 * M 1 18 + k)) ∧ (lk9_ M (M 61 (3 * M 1 18 + k)) t ↔ η (M 61 (3 * M 1 18 + k)) = η t)) (h : K (fi_ (fun i => η (M 61 (3 * M 1 18 + i))) (η t) m 0) M) : Tr_ wd0 pg0 (d + 3) 129 [.inr (.inr 1), .inl t] M (ri_ K) Qt := t_129 fun V hV hW => b_129_0 (Tr_mono _) hV hW t M ⟨h2, ⟨h3, h4⟩, by
  rw [hm, w32_id (by omega) (by omega)]
  refine x_113f (η := η) (by omega) (by omega) ht (fun k h1 h5 => ?_) (ri_i h)
  have := hn (k - 3 * M 1 18) (by omega) (by omega)
  have e : 3 * M 1 18 + (k - 3 * M 1 18) = k := by omega
  rw [e] at this
  exact this⟩
theorem x_142 {t : Int} {η : Int → Int} {m : Nat} (h2 : M 1 2 = 5) (h3 : 0 ≤ M 1 18) (h4 : M 1 18 < 6) (hm : M 123 (M 1 18) = m) (hz : (m : Int) ≤ 12) (ht : tk9_ M t) (hn : ∀ k : Int, 0 ≤ k → k < m → tk9_ M (M 59 (12 * M 1 18 + k)) ∧ (lk9_ M (M 59 (12 * M 1 18 + k)) t ↔ η (M 59 (12 * M 1 18 + k)) = η t)) (h : K (fi_ (fun i => η (M 59 (12 * M 1 18 + i))) (η t) m 0) M) : Tr_ wd0 pg0 (d + 3) 142 [.inr (.inr 1), .inl t] M (ri_ K) Qt := t_142 fun V hV hW => b_142_0 (Tr_mono _) hV hW t M ⟨h2, ⟨h3, h4⟩, by
  rw [hm, w32_id (by omega) (by omega)]
  refine x_113d (η := η) (by omega) (by omega) ht (fun k h1 h5 => ?_) (ri_i h)
  have := hn (k - 12 * M 1 18) (by omega) (by omega)
  have e : 12 * M 1 18 + (k - 12 * M 1 18) = k := by omega
  rw [e] at this
  exact this⟩
theorem q_251 {v : Int} {m : Nat} (hm : M 6 17 = m) (hz : (m : Int) ≤ 20) (h : K (fi_ (fun i => M 152 i) v m 0) M) : Tr_ wd0 pg0 (d + 1) 251 [.inr (.inr 6), .inr (.inl v)] M (ri_ K) Qt := t_251 fun V hV hW => b_251_0 (Tr_mono _) hV hW v M (by
  have key : ∀ (n : Nat) (k : Int), 0 ≤ k → k + n = m → ri_ K [.inl (fi_ (fun i => M 152 i) v n k)] M → V 2 [rr 6, jj v, none, ii k] [] M := by
    intro n
    induction n with
    | zero =>
      intro k hk he h
      refine b_251_2 (Tr_mono _) hV hW v k M ?_
      rw [hm, if_neg (by omega)]
      exact h
    | succ n ih =>
      intro k hk he h
      refine b_251_2 (Tr_mono _) hV hW v k M ?_
      rw [hm, if_pos (by omega)]
      unfold fi_ at h
      refine ⟨by omega, ?_⟩
      by_cases h1 : M 152 k = v
      · rw [if_pos (cmp9.mpr h1)]
        rw [if_pos h1] at h
        exact h
      · rw [if_neg (fun h2 => h1 (cmp9.mp h2)), w32_id (by omega) (by omega)]
        rw [if_neg h1] at h
        exact ih (k + 1) (by omega) (by omega) h
  exact key m 0 (by omega) (by omega) (ri_i h))
theorem q_300 {v : Int} {m : Nat} (hm : M 6 18 = m) (hz : (m : Int) ≤ 10) (h : K (fi_ (fun i => M 153 i) v m 0) M) : Tr_ wd0 pg0 (d + 1) 300 [.inr (.inr 6), .inr (.inl v)] M (ri_ K) Qt := t_300 fun V hV hW => b_300_0 (Tr_mono _) hV hW v M (by
  have key : ∀ (n : Nat) (k : Int), 0 ≤ k → k + n = m → ri_ K [.inl (fi_ (fun i => M 153 i) v n k)] M → V 2 [rr 6, jj v, none, ii k] [] M := by
    intro n
    induction n with
    | zero =>
      intro k hk he h
      refine b_300_2 (Tr_mono _) hV hW v k M ?_
      rw [hm, if_neg (by omega)]
      exact h
    | succ n ih =>
      intro k hk he h
      refine b_300_2 (Tr_mono _) hV hW v k M ?_
      rw [hm, if_pos (by omega)]
      unfold fi_ at h
      refine ⟨by omega, ?_⟩
      by_cases h1 : M 153 k = v
      · rw [if_pos (cmp9.mpr h1)]
        rw [if_pos h1] at h
        exact h
      · rw [if_neg (fun h2 => h1 (cmp9.mp h2)), w32_id (by omega) (by omega)]
        rw [if_neg h1] at h
        exact ih (k + 1) (by omega) (by omega) h
  exact key m 0 (by omega) (by omega) (ri_i h))
theorem q_247 {v : Int} {m : Nat} (hm : M 6 19 = m) (hz : (m : Int) ≤ 6) (h : K (fi_ (fun i => M 154 i) v m 0) M) : Tr_ wd0 pg0 (d + 1) 247 [.inr (.inr 6), .inr (.inl v)] M (ri_ K) Qt := t_247 fun V hV hW => b_247_0 (Tr_mono _) hV hW v M (by
  have key : ∀ (n : Nat) (k : Int), 0 ≤ k → k + n = m → ri_ K [.inl (fi_ (fun i => M 154 i) v n k)] M → V 2 [rr 6, jj v, none, ii k] [] M := by
    intro n
    induction n with
    | zero =>
      intro k hk he h
      refine b_247_2 (Tr_mono _) hV hW v k M ?_
      rw [hm, if_neg (by omega)]
      exact h
    | succ n ih =>
      intro k hk he h
      refine b_247_2 (Tr_mono _) hV hW v k M ?_
      rw [hm, if_pos (by omega)]
      unfold fi_ at h
      refine ⟨by omega, ?_⟩
      by_cases h1 : M 154 k = v
      · rw [if_pos (cmp9.mpr h1)]
        rw [if_pos h1] at h
        exact h
      · rw [if_neg (fun h2 => h1 (cmp9.mp h2)), w32_id (by omega) (by omega)]
        rw [if_neg h1] at h
        exact ih (k + 1) (by omega) (by omega) h
  exact key m 0 (by omega) (by omega) (ri_i h))
theorem q_276 {t v : Int} {m : Nat} (h0 : 0 ≤ t) (h6 : t < 6) (hm : M 171 t = m) (hz : (m : Int) ≤ 8) (h : K (if fi_ (fun i => M 177 (8 * t + i)) v m 0 = -1 then -1 else 8 * t + fi_ (fun i => M 177 (8 * t + i)) v m 0) M) : Tr_ wd0 pg0 (d + 1) 276 [.inr (.inr 6), .inl t, .inr (.inl v)] M (ri_ K) Qt := t_276 fun V hV hW => b_276_0 (Tr_mono _) hV hW t v M (by
  have key : ∀ (n : Nat) (k : Int), 0 ≤ k → k + n = m → ri_ K [.inl (if fi_ (fun i => M 177 (8 * t + i)) v n k = -1 then -1 else 8 * t + fi_ (fun i => M 177 (8 * t + i)) v n k)] M → V 3 [rr 6, ii t, jj v, none, ii k] [] M := by
    intro n
    induction n with
    | zero =>
      intro k hk he h
      refine b_276_3 (Tr_mono _) hV hW t v k M ?_
      rw [hm, if_neg (by omega)]
      exact ⟨⟨h0, h6⟩, h⟩
    | succ n ih =>
      intro k hk he h
      refine b_276_3 (Tr_mono _) hV hW t v k M ?_
      have w1 : w32 (w32 (8 * t) + k) = 8 * t + k := by rw [w32_id (x := 8 * t) (by omega) (by omega), w32_id (by omega) (by omega)]
      rw [hm, if_pos (by omega), w1]
      refine ⟨⟨h0, h6⟩, by omega, ?_⟩
      by_cases h1 : M 177 (8 * t + k) = v
      · rw [if_pos (cmp9.mpr h1)]
        have e : fi_ (fun i => M 177 (8 * t + i)) v (n + 1) k = k := by unfold fi_; rw [if_pos h1]
        rw [e] at h
        rw [if_neg (by omega)] at h
        exact h
      · rw [if_neg (fun h2 => h1 (cmp9.mp h2)), w32_id (by omega) (by omega)]
        have e : fi_ (fun i => M 177 (8 * t + i)) v (n + 1) k = fi_ (fun i => M 177 (8 * t + i)) v n (k + 1) := by conv => lhs; unfold fi_; rw [if_neg h1]
        rw [e] at h
        exact ih (k + 1) (by omega) (by omega) h
  exact key m 0 (by omega) (by omega) (ri_i h))
theorem q_283 {t v : Int} {m : Nat} (h0 : 0 ≤ t) (h6 : t < 6) (hm : M 173 t = m) (hz : (m : Int) ≤ 3) (h : K (fi_ (fun i => M 178 (3 * t + i)) v m 0) M) : Tr_ wd0 pg0 (d + 1) 283 [.inr (.inr 6), .inl t, .inr (.inl v)] M (ri_ K) Qt := t_283 fun V hV hW => b_283_0 (Tr_mono _) hV hW t v M (by
  have key : ∀ (n : Nat) (k : Int), 0 ≤ k → k + n = m → ri_ K [.inl (fi_ (fun i => M 178 (3 * t + i)) v n k)] M → V 3 [rr 6, ii t, jj v, none, ii k] [] M := by
    intro n
    induction n with
    | zero =>
      intro k hk he h
      refine b_283_3 (Tr_mono _) hV hW t v k M ?_
      rw [hm, if_neg (by omega)]
      exact ⟨⟨h0, h6⟩, h⟩
    | succ n ih =>
      intro k hk he h
      refine b_283_3 (Tr_mono _) hV hW t v k M ?_
      have w1 : w32 (w32 (3 * t) + k) = 3 * t + k := by rw [w32_id (x := 3 * t) (by omega) (by omega), w32_id (by omega) (by omega)]
      rw [hm, if_pos (by omega), w1]
      refine ⟨⟨h0, h6⟩, by omega, ?_⟩
      by_cases h1 : M 178 (3 * t + k) = v
      · rw [if_pos (cmp9.mpr h1)]
        have e : fi_ (fun i => M 178 (3 * t + i)) v (n + 1) k = k := by unfold fi_; rw [if_pos h1]
        rw [e] at h
        skip
        exact h
      · rw [if_neg (fun h2 => h1 (cmp9.mp h2)), w32_id (by omega) (by omega)]
        have e : fi_ (fun i => M 178 (3 * t + i)) v (n + 1) k = fi_ (fun i => M 178 (3 * t + i)) v n (k + 1) := by conv => lhs; unfold fi_; rw [if_neg h1]
        rw [e] at h
        exact ih (k + 1) (by omega) (by omega) h
  exact key m 0 (by omega) (by omega) (ri_i h))
theorem q_267 {t v : Int} {m : Nat} (h0 : 0 ≤ t) (h6 : t < 6) (hm : M 174 t = m) (hz : (m : Int) ≤ 12) (h : K (fi_ (fun i => M 179 (12 * t + i)) v m 0) M) : Tr_ wd0 pg0 (d + 1) 267 [.inr (.inr 6), .inl t, .inr (.inl v)] M (ri_ K) Qt := t_267 fun V hV hW => b_267_0 (Tr_mono _) hV hW t v M (by
  have key : ∀ (n : Nat) (k : Int), 0 ≤ k → k + n = m → ri_ K [.inl (fi_ (fun i => M 179 (12 * t + i)) v n k)] M → V 3 [rr 6, ii t, jj v, none, ii k] [] M := by
    intro n
    induction n with
    | zero =>
      intro k hk he h
      refine b_267_3 (Tr_mono _) hV hW t v k M ?_
      rw [hm, if_neg (by omega)]
      exact ⟨⟨h0, h6⟩, h⟩
    | succ n ih =>
      intro k hk he h
      refine b_267_3 (Tr_mono _) hV hW t v k M ?_
      have w1 : w32 (w32 (12 * t) + k) = 12 * t + k := by rw [w32_id (x := 12 * t) (by omega) (by omega), w32_id (by omega) (by omega)]
      rw [hm, if_pos (by omega), w1]
      refine ⟨⟨h0, h6⟩, by omega, ?_⟩
      by_cases h1 : M 179 (12 * t + k) = v
      · rw [if_pos (cmp9.mpr h1)]
        have e : fi_ (fun i => M 179 (12 * t + i)) v (n + 1) k = k := by unfold fi_; rw [if_pos h1]
        rw [e] at h
        skip
        exact h
      · rw [if_neg (fun h2 => h1 (cmp9.mp h2)), w32_id (by omega) (by omega)]
        have e : fi_ (fun i => M 179 (12 * t + i)) v (n + 1) k = fi_ (fun i => M 179 (12 * t + i)) v n (k + 1) := by conv => lhs; unfold fi_; rw [if_neg h1]
        rw [e] at h
        exact ih (k + 1) (by omega) (by omega) h
  exact key m 0 (by omega) (by omega) (ri_i h))
theorem q_268 {t v : Int} {m : Nat} (h0 : 0 ≤ t) (h6 : t < 6) (hm : M 175 t = m) (hz : (m : Int) ≤ 10) (h : K (fi_ (fun i => M 180 (10 * t + i)) v m 0) M) : Tr_ wd0 pg0 (d + 1) 268 [.inr (.inr 6), .inl t, .inr (.inl v)] M (ri_ K) Qt := t_268 fun V hV hW => b_268_0 (Tr_mono _) hV hW t v M (by
  have key : ∀ (n : Nat) (k : Int), 0 ≤ k → k + n = m → ri_ K [.inl (fi_ (fun i => M 180 (10 * t + i)) v n k)] M → V 3 [rr 6, ii t, jj v, none, ii k] [] M := by
    intro n
    induction n with
    | zero =>
      intro k hk he h
      refine b_268_3 (Tr_mono _) hV hW t v k M ?_
      rw [hm, if_neg (by omega)]
      exact ⟨⟨h0, h6⟩, h⟩
    | succ n ih =>
      intro k hk he h
      refine b_268_3 (Tr_mono _) hV hW t v k M ?_
      have w1 : w32 (w32 (10 * t) + k) = 10 * t + k := by rw [w32_id (x := 10 * t) (by omega) (by omega), w32_id (by omega) (by omega)]
      rw [hm, if_pos (by omega), w1]
      refine ⟨⟨h0, h6⟩, by omega, ?_⟩
      by_cases h1 : M 180 (10 * t + k) = v
      · rw [if_pos (cmp9.mpr h1)]
        have e : fi_ (fun i => M 180 (10 * t + i)) v (n + 1) k = k := by unfold fi_; rw [if_pos h1]
        rw [e] at h
        skip
        exact h
      · rw [if_neg (fun h2 => h1 (cmp9.mp h2)), w32_id (by omega) (by omega)]
        have e : fi_ (fun i => M 180 (10 * t + i)) v (n + 1) k = fi_ (fun i => M 180 (10 * t + i)) v n (k + 1) := by conv => lhs; unfold fi_; rw [if_neg h1]
        rw [e] at h
        exact ih (k + 1) (by omega) (by omega) h
  exact key m 0 (by omega) (by omega) (ri_i h))
end NM
end T66_nm
