section T422_ch
/-! charts: small steps of both (X 73-76, 80 | Q 227-250) at a token -/
def CB (b : Int) (M N : mm_) (a : Int) : Prop := TksB M N ∧ gdB M a ∧ (M 0 75 = a ∧ N 6 12 = a) ∧ (N 6 16 = b ∧ (b = 0 ∨ b = 1)) ∧ (b = 0 → N 6 13 = 0)
/-- what goes wrong where a kind is wanted -/
def Bd (M : mm_) (a k f : Int) : Prop := (M 75 a ≠ k ∧ f = 1) ∨ (M 75 a = k ∧ a = 1200 ∧ f = 2)
def bdX (M : mm_) (f p : Int) : mm_ := up_ (up_ M 0 92 f) 0 93 p
/-- a call of X throws so -/
def Th (d n : Nat) (as : List pv_) (M M' : mm_) : Prop := ∀ (Qr : qr_) (Qt : qt_), Qt 7 M' → Tr_ wd0 pg0 d n as M Qr Qt
theorem Th_le [Inhabited fz_] {d d' n : Nat} {as : List pv_} {M M' : mm_} (h : d ≤ d') (g : Th d n as M M') : Th d' n as M M' := fun Qr Qt k => Tr_le h (g Qr Qt k)
theorem kc_s [Inhabited fz_] {k t v x : Int} (h : KQ k t v) (hx : 37 ≤ x ∧ x ≤ 93 ∨ 256 ≤ x ∧ x ≤ 261) : (t = 3 ∧ v = x) ↔ k = skk_ x := by
  unfold KQ at h; unfold skk_; split <;> omega
theorem kc_w [Inhabited fz_] {k t v x : Int} (h : KQ k t v) (hx : 0 ≤ x ∧ x < 48) : (t = 4 ∧ v = x) ↔ k = x := by
  unfold KQ at h; omega
theorem kc_n [Inhabited fz_] {k t v : Int} (h : KQ k t v) : t = 1 ↔ k = 100 := by unfold KQ at h; omega
theorem kc_u [Inhabited fz_] {k t v : Int} (h : KQ k t v) : t = 2 ↔ k = 101 := by unfold KQ at h; omega
section CHa
variable {b : Int} {M N M' N' : mm_} {a k f t x c w p : Int}
theorem TksB_c [Inhabited fz_] (h : TksB M N) (e : ∀ r, r ∈ [74, 75, 76, 77, 78] → M' r = M r) (g : ∀ r, r ∈ [149, 150, 151] → N' r = N r) : TksB M' N' := by
  unfold TksB gdB lk9B at *
  rw [e 74 (by decide), e 75 (by decide), e 76 (by decide), e 77 (by decide), e 78 (by decide), g 149 (by decide), g 150 (by decide), g 151 (by decide)]
  exact h
theorem gdB_c [Inhabited fz_] (h : gdB M a) (e : M' 75 = M 75) : gdB M' a := by
  unfold gdB at *; rw [e]; exact h
theorem CB_a [Inhabited fz_] (h : CB b M N a) : 0 ≤ a ∧ a ≤ 1200 := ⟨h.2.1.1, h.2.1.2.1⟩
theorem CB_k [Inhabited fz_] (h : CB b M N a) : KQ (M 75 a) (N 149 (N 6 12)) (N 151 (N 6 12)) ∧ N 150 (N 6 12) = M 76 a ∧ in9_ N := by
  have e := h.1 a h.2.1
  have := CB_a h
  unfold in9_
  rw [h.2.2.1.2]
  exact ⟨e.1, e.2.1.symm, by (clear h e; lia), by omega⟩
theorem CB_go [Inhabited fz_] (h : CB b M N a) : go_ N := by
  rcases h.2.2.2.1.2 with e | e
  · exact .inl (by rw [h.2.2.2.2 e]; omega)
  · exact .inr (by rw [h.2.2.2.1.1]; omega)
theorem CB_ok [Inhabited fz_] (h : CB b M N a) (e : b = 0) : ok_ N := ⟨h.2.2.2.2 e, by rw [h.2.2.2.1.1]; exact e⟩
theorem CB_nx [Inhabited fz_] (h : CB b M N a) (h1 : M 75 a ≠ 102) (h2 : M 75 a ≠ 103) (h3 : a < 1200) : CB b (up_ M 0 75 (a + 1)) (nx_ N) (a + 1) := by
  have ha := CB_a h
  refine ⟨TksB_c h.1 (fun r hr => up_ne (by rintro rfl; exact absurd hr (by decide))) (fun r hr => up_ne (by rintro rfl; exact absurd hr (by decide))), ⟨by omega, by omega, fun j j0 j1 => ?_⟩, ⟨up_at, ?_⟩, ⟨?_, h.2.2.2.1.2⟩, fun e => ?_⟩
  · rw [up_ne (by decide)]
    by_cases c : j = a
    · subst c; exact ⟨h1, h2⟩
    · exact h.2.1.2.2 j j0 (by omega)
  · unfold nx_; rw [up_at, h.2.2.1.2]
  · unfold nx_; rw [upo (by decide)]; exact h.2.2.2.1.1
  · unfold nx_; rw [upo (by decide)]; exact h.2.2.2.2 e
/-- the memories may change elsewhere -/
theorem CB_c [Inhabited fz_] (h : CB b M N a) (e : ∀ r, r ∈ [74, 75, 76, 77, 78] → M' r = M r) (g : ∀ r, r ∈ [149, 150, 151] → N' r = N r) (e1 : M' 0 75 = M 0 75) (g1 : N' 6 12 = N 6 12) (g2 : N' 6 16 = N 6 16) (g3 : b = 0 → N' 6 13 = N 6 13) : CB b M' N' a := ⟨TksB_c h.1 e g, gdB_c h.2.1 (e 75 (by decide)), ⟨by rw [e1]; exact h.2.2.1.1, by rw [g1]; exact h.2.2.1.2⟩, ⟨by rw [g2]; exact h.2.2.2.1.1, h.2.2.2.1.2⟩, fun z => by rw [g3 z]; exact h.2.2.2.2 z⟩
theorem sp_b [Inhabited fz_] (h : N 6 16 = 0) (hf : 0 < f) : sp_ (bf_ N f p) := bf_sp h hf
theorem in_b [Inhabited fz_] (h : in9_ N) : in9_ (bf_ N f p) := by unfold in9_; rw [bf_6 (by decide) (by decide)]; exact h
theorem Bd_f [Inhabited fz_] (h : Bd M a k f) : 0 < f := by rcases h with h | h <;> omega
/-! X -/
theorem x_74 [Inhabited fz_] (ha : 0 ≤ a ∧ a ≤ 1200) (e : M 0 75 = a) : ∃ v, BV v ∧ (v = 1 ↔ M 75 a = k) ∧ Ex_ 1 74 [.inr (.inr 0), .inl k] M [.inl v] M := by
  by_cases c : M 75 a = k
  · refine ⟨1, .inr rfl, ⟨fun _ => c, fun _ => rfl⟩, fun Qr Qt g => t_74 fun V hV hW => b_74_0 (Tr_mono _) hV hW _ _ ?_⟩
    rw [e]
    refine ⟨by omega, ?_⟩
    rw [if_pos c]
    exact ⟨.inr rfl, g⟩
  · refine ⟨0, .inl rfl, ⟨fun h => absurd h (by decide), fun h => absurd h c⟩, fun Qr Qt g => t_74 fun V hV hW => b_74_0 (Tr_mono _) hV hW _ _ ?_⟩
    rw [e]
    refine ⟨by omega, ?_⟩
    rw [if_neg c]
    exact ⟨.inl rfl, g⟩
theorem x_74t [Inhabited fz_] (ha : 0 ≤ a ∧ a ≤ 1200) (e : M 0 75 = a) (c : M 75 a = k) : Ex_ 1 74 [.inr (.inr 0), .inl k] M [.inl 1] M := by
  obtain ⟨v, v1, v2, v3⟩ := x_74 (k := k) ha e
  rw [v2.2 c] at v3; exact v3
theorem x_74f [Inhabited fz_] (ha : 0 ≤ a ∧ a ≤ 1200) (e : M 0 75 = a) (c : M 75 a ≠ k) : Ex_ 1 74 [.inr (.inr 0), .inl k] M [.inl 0] M := by
  obtain ⟨v, v1, v2, v3⟩ := x_74 (k := k) ha e
  have : v = 0 := v1.resolve_right (fun h => c (v2.1 h))
  rw [this] at v3; exact v3
theorem x_75c [Inhabited fz_] (ht : 0 ≤ t ∧ t ≤ 1200) : Ex_ 1 75 [.inr (.inr 0), .inl f, .inl t] M [.inr (.inr 7)] (bdX M f (M 76 t)) := fun Qr Qt g => t_75 fun V hV hW => b_75_0 (Tr_mono _) hV hW _ _ _ ⟨by (clear g hV hW; omega), g⟩
theorem x_73 [Inhabited fz_] (ha : 0 ≤ a ∧ a ≤ 1200) (e : M 0 75 = a) (c : M 75 a = k) (h : a < 1200) : Ex_ 2 73 [.inr (.inr 0), .inl k] M [] (up_ M 0 75 (a + 1)) := fun Qr Qt g => t_73 fun V hV hW => b_73_0 (Tr_mono _) hV hW _ _ (x_74t ha e c _ _ (ri_i (by
  rw [if_neg (by decide), e, if_pos h, w32_id (by omega) (by (clear c g hV hW; omega))]
  exact g)))
theorem x_73b [Inhabited fz_] (ha : 0 ≤ a ∧ a ≤ 1200) (e : M 0 75 = a) (c : Bd M a k f) : Th 2 73 [.inr (.inr 0), .inl k] M (bdX M f (M 76 a)) := fun Qr Qt g => t_73 fun V hV hW => b_73_0 (Tr_mono _) hV hW _ _ (by
  rcases c with ⟨c, rfl⟩ | ⟨c, c2, rfl⟩
  · refine x_74f ha e c _ _ (ri_i ?_)
    rw [if_pos rfl, e]
    refine x_75c ha _ _ (rf_i ?_)
    rw [if_neg (by decide)]; exact g
  · refine x_74t ha e c _ _ (ri_i ?_)
    rw [if_neg (by decide), e, if_neg (by (clear ha hV hW c g; omega))]
    refine x_75c ha _ _ (rf_i ?_)
    rw [if_neg (by decide)]; exact g)
theorem x_76 [Inhabited fz_] (ha : 0 ≤ a ∧ a ≤ 1200) (e : M 0 75 = a) (hc : 0 ≤ c ∧ c < 200) (g : M 75 a = 200 + c) (h : a < 1200) : Ex_ 3 76 [.inr (.inr 0), .inl c] M [] (up_ M 0 75 (a + 1)) := fun Qr Qt z => t_76 fun V hV hW => b_76_0 (Tr_mono _) hV hW _ _ (by
  rw [w32_id (by (clear ha e h z hV hW; lia)) (by omega)]
  exact x_73 ha e g h _ _ (rv_i z))
theorem x_76b [Inhabited fz_] (ha : 0 ≤ a ∧ a ≤ 1200) (e : M 0 75 = a) (hc : 0 ≤ c ∧ c < 200) (g : Bd M a (200 + c) f) : Th 3 76 [.inr (.inr 0), .inl c] M (bdX M f (M 76 a)) := fun Qr Qt z => t_76 fun V hV hW => b_76_0 (Tr_mono _) hV hW _ _ (by
  rw [w32_id (by (clear ha e g z hV hW; omega)) (by omega)]
  exact x_73b ha e g _ _ z)
/-- a note of X -/
def ntX (M : mm_) (k t : Int) : mm_ := if M 0 92 = 0 ∨ M 76 t < M 0 93 ∨ M 76 t = M 0 93 ∧ k < M 0 92 then bdX M k (M 76 t) else M
theorem x_80 [Inhabited fz_] (ht : 0 ≤ t ∧ t ≤ 1200) : Ex_ 1 80 [.inr (.inr 0), .inl k, .inl t] M [] (ntX M k t) := fun Qr Qt g => t_80 fun V hV hW => b_80_0 (Tr_mono _) hV hW _ _ _ ⟨by omega, by
  unfold ntX at g
  by_cases c0 : M 0 92 = 0
  · rw [if_pos c0]; rw [if_pos (.inl c0)] at g; exact g
  · rw [if_neg c0]
    by_cases c1 : M 0 93 < M 76 t
    · rw [if_pos c1]; rw [if_neg (by omega)] at g; exact g
    · rw [if_neg c1]
      by_cases c2 : M 0 93 = M 76 t
      · rw [if_pos c2]
        by_cases c3 : M 0 92 ≤ k
        · rw [if_pos c3]; rw [if_neg (by omega)] at g; exact g
        · rw [if_neg c3]; rw [if_pos (by omega)] at g; exact g
      · rw [if_neg c2]; rw [if_pos (by (clear ht g hV hW c0; omega))] at g; exact g⟩
/-! Q -/
theorem c_227 [Inhabited fz_] (h : CB b M N a) : Ex_ 1 227 [.inr (.inr 6)] N [.inl 0] N := fun Qr Qt g => Tr_m (q_227g (K := fun v M' => v = 0 ∧ M' = N) (Qt := Qt) (CB_go h) ⟨rfl, rfl⟩) (fun vs M' ⟨v, e, e1, e2⟩ => by rw [e, e1, e2]; exact g) (fun _ _ z => z)
theorem c_229 [Inhabited fz_] (h : CB b M N a) (hw : 0 ≤ w ∧ w < 48) : ∃ v, BV v ∧ (v = 1 ↔ M 75 a = w) ∧ Ex_ 1 229 [.inr (.inr 6), .inl w] N [.inl v] N := by
  obtain ⟨e1, e2, e3⟩ := CB_k h
  by_cases c : M 75 a = w
  · exact ⟨1, .inr rfl, ⟨fun _ => c, fun _ => rfl⟩, fun Qr Qt g => Tr_m (q_229t (K := fun v M' => v = 1 ∧ M' = N) (Qt := Qt) e3 ((kc_w e1 hw).2 c).1 ((kc_w e1 hw).2 c).2 ⟨rfl, rfl⟩) (fun vs M' ⟨v, e, e1, e2⟩ => by rw [e, e1, e2]; exact g) (fun _ _ z => z)⟩
  · exact ⟨0, .inl rfl, ⟨fun z => absurd z (by decide), fun z => absurd z c⟩, fun Qr Qt g => Tr_m (q_229f (K := fun v M' => v = 0 ∧ M' = N) (Qt := Qt) e3 (fun z => c ((kc_w e1 hw).1 z)) ⟨rfl, rfl⟩) (fun vs M' ⟨v, e, e1, e2⟩ => by rw [e, e1, e2]; exact g) (fun _ _ z => z)⟩
theorem c_229t [Inhabited fz_] (h : CB b M N a) (hw : 0 ≤ w ∧ w < 48) (c : M 75 a = w) : Ex_ 1 229 [.inr (.inr 6), .inl w] N [.inl 1] N := by
  obtain ⟨v, v1, v2, v3⟩ := c_229 h hw
  rw [v2.2 c] at v3; exact v3
theorem c_229f [Inhabited fz_] (h : CB b M N a) (hw : 0 ≤ w ∧ w < 48) (c : M 75 a ≠ w) : Ex_ 1 229 [.inr (.inr 6), .inl w] N [.inl 0] N := by
  obtain ⟨v, v1, v2, v3⟩ := c_229 h hw
  have : v = 0 := v1.resolve_right (fun h => c (v2.1 h))
  rw [this] at v3; exact v3
theorem Ei [Inhabited fz_] {d n : Nat} {as : List pv_} {v : Int} (h : ∀ Qt, Tr_ wd0 pg0 d n as N (ri_ fun u N1 => u = v ∧ N1 = N') Qt) : Ex_ d n as N [.inl v] N' := fun Qr Qt g => Tr_m (h Qt) (fun vs M' ⟨v, e, e1, e2⟩ => by rw [e, e1, e2]; exact g) (fun _ _ z => z)
theorem Ev [Inhabited fz_] {d n : Nat} {as : List pv_} (h : ∀ Qt, Tr_ wd0 pg0 d n as N (rv_ fun N1 => N1 = N') Qt) : Ex_ d n as N [] N' := fun Qr Qt g => Tr_m (h Qt) (fun vs M' ⟨e, e1⟩ => by rw [e, e1]; exact g) (fun _ _ z => z)
theorem c_228t [Inhabited fz_] (h : CB b M N a) (hw : 0 ≤ w ∧ w < 48) (c : M 75 a = w) (ha : a < 1200) : Ex_ 3 228 [.inr (.inr 6), .inl w] N [.inl 1] (nx_ N) := by
  obtain ⟨e1, e2, e3⟩ := CB_k h
  have := (kc_w e1 hw).2 c
  exact Ei fun Qt => q_228t (CB_go h) e3.1 (by rw [h.2.2.1.2]; exact ha) this.1 this.2 ⟨rfl, rfl⟩
theorem c_228f [Inhabited fz_] (h : CB b M N a) (hw : 0 ≤ w ∧ w < 48) (c : M 75 a ≠ w) : Ex_ 3 228 [.inr (.inr 6), .inl w] N [.inl 0] N := by
  obtain ⟨e1, e2, e3⟩ := CB_k h
  exact Ei fun Qt => q_228f (CB_go h) e3 (fun z => c ((kc_w e1 hw).1 z)) ⟨rfl, rfl⟩
theorem c_228b [Inhabited fz_] (h : CB b M N a) (hb : b = 0) (hw : 0 ≤ w ∧ w < 48) (c : M 75 a = w) (ha : a = 1200) : Ex_ 3 228 [.inr (.inr 6), .inl w] N [.inl 1] (bf_ N 2 (M 76 a)) := by
  obtain ⟨e1, e2, e3⟩ := CB_k h
  have := (kc_w e1 hw).2 c
  rw [← e2]
  exact Ei fun Qt => q_228r (CB_ok h hb) (by rw [h.2.2.1.2]; exact ha) this.1 this.2 ⟨rfl, rfl⟩
theorem c_244 [Inhabited fz_] (h : CB b M N a) (hx : 37 ≤ x ∧ x ≤ 93 ∨ 256 ≤ x ∧ x ≤ 261) (c : M 75 a = skk_ x) (ha : a < 1200) : Ex_ 3 244 [.inr (.inr 6), .inl x] N [] (nx_ N) := by
  obtain ⟨e1, e2, e3⟩ := CB_k h
  have := (kc_s e1 hx).2 c
  exact Ev fun Qt => q_244g (CB_go h) e3.1 (by rw [h.2.2.1.2]; exact ha) this.1 this.2 rfl
theorem c_244b [Inhabited fz_] (h : CB b M N a) (hb : b = 0) (hx : 37 ≤ x ∧ x ≤ 93 ∨ 256 ≤ x ∧ x ≤ 261) (c : Bd M a (skk_ x) f) : Ex_ 3 244 [.inr (.inr 6), .inl x] N [] (bf_ N f (M 76 a)) := by
  obtain ⟨e1, e2, e3⟩ := CB_k h
  rw [← e2]
  rcases c with ⟨c, rfl⟩ | ⟨c, c2, rfl⟩
  · exact Ev fun Qt => q_244w (CB_ok h hb) e3 (fun z => c ((kc_s e1 hx).1 z)) rfl
  · have := (kc_s e1 hx).2 c
    exact Ev fun Qt => q_244r (CB_ok h hb) (by rw [h.2.2.1.2]; exact c2) this.1 this.2 rfl
theorem c_250 [Inhabited fz_] (h : CB b M N a) (hw : 0 ≤ w ∧ w < 48) (c : M 75 a = w) (ha : a < 1200) : Ex_ 3 250 [.inr (.inr 6), .inl w] N [] (nx_ N) := by
  obtain ⟨e1, e2, e3⟩ := CB_k h
  have := (kc_w e1 hw).2 c
  exact Ev fun Qt => q_250g (CB_go h) e3.1 (by rw [h.2.2.1.2]; exact ha) this.1 this.2 rfl
theorem c_250b [Inhabited fz_] (h : CB b M N a) (hb : b = 0) (hw : 0 ≤ w ∧ w < 48) (c : Bd M a w f) : Ex_ 3 250 [.inr (.inr 6), .inl w] N [] (bf_ N f (M 76 a)) := by
  obtain ⟨e1, e2, e3⟩ := CB_k h
  rw [← e2]
  rcases c with ⟨c, rfl⟩ | ⟨c, c2, rfl⟩
  · exact Ev fun Qt => q_250w (CB_ok h hb) e3 (fun z => c ((kc_w e1 hw).1 z)) rfl
  · have := (kc_w e1 hw).2 c
    exact Ev fun Qt => q_250r (CB_ok h hb) (by rw [h.2.2.1.2]; exact c2) this.1 this.2 rfl
theorem c_233 [Inhabited fz_] (h : CB b M N a) (c : M 75 a = 100) (ha : a < 1200) : Ex_ 3 233 [.inr (.inr 6)] N [.inl a] (nx_ N) := by
  obtain ⟨e1, e2, e3⟩ := CB_k h
  exact Ei fun Qt => q_233g (CB_go h) e3.1 (by rw [h.2.2.1.2]; exact ha) ((kc_n e1).2 c) ⟨h.2.2.1.2, rfl⟩
theorem c_233b [Inhabited fz_] (h : CB b M N a) (hb : b = 0) (c : Bd M a 100 f) : Ex_ 3 233 [.inr (.inr 6)] N [.inl a] (bf_ N f (M 76 a)) := by
  obtain ⟨e1, e2, e3⟩ := CB_k h
  rw [← e2]
  rcases c with ⟨c, rfl⟩ | ⟨c, c2, rfl⟩
  · exact Ei fun Qt => q_233w (CB_ok h hb) e3 (fun z => c ((kc_n e1).1 z)) ⟨h.2.2.1.2, rfl⟩
  · exact Ei fun Qt => q_233r (CB_ok h hb) (by rw [h.2.2.1.2]; exact c2) ((kc_n e1).2 c) ⟨h.2.2.1.2, rfl⟩
theorem c_249 [Inhabited fz_] (h : CB b M N a) (c : M 75 a = 101) (ha : a < 1200) : Ex_ 3 249 [.inr (.inr 6)] N [.inl (M 78 a)] (nx_ N) := by
  obtain ⟨e1, e2, e3⟩ := CB_k h
  have e4 := (h.1 a h.2.1).2.2.1 c
  exact Ei fun Qt => q_249g (CB_go h) e3.1 (by rw [h.2.2.1.2]; exact ha) ((kc_u e1).2 c) ⟨by rw [h.2.2.1.2, e4.1]; exact w32_id (by (clear h c ha e1 e2 e3; lia)) (by omega), rfl⟩
theorem c_249b [Inhabited fz_] (h : CB b M N a) (hb : b = 0) (c : Bd M a 101 f) : ∃ v, Ex_ 3 249 [.inr (.inr 6)] N [.inl v] (bf_ N f (M 76 a)) := by
  obtain ⟨e1, e2, e3⟩ := CB_k h
  rw [← e2]
  rcases c with ⟨c, rfl⟩ | ⟨c, c2, rfl⟩
  · exact ⟨_, Ei fun Qt => q_249w (CB_ok h hb) e3 (fun z => c ((kc_u e1).1 z)) ⟨rfl, rfl⟩⟩
  · exact ⟨_, Ei fun Qt => q_249r (CB_ok h hb) (by rw [h.2.2.1.2]; exact c2) ((kc_u e1).2 c) ⟨rfl, rfl⟩⟩
theorem c_230 [Inhabited fz_] (h : CB b M N a) (ha : a < 1200) : Ex_ 2 230 [.inr (.inr 6)] N [] (nx_ N) := Ev fun Qt => q_230g (CB_go h) (CB_k h).2.2.1 (by rw [h.2.2.1.2]; exact ha) rfl
theorem c_230b [Inhabited fz_] (h : CB b M N a) (hb : b = 0) (ha : a = 1200) : Ex_ 2 230 [.inr (.inr 6)] N [] (bf_ N 2 (M 76 a)) := by
  rw [← (CB_k h).2.1]
  exact Ev fun Qt => q_230r (CB_ok h hb) (by rw [h.2.2.1.2]; exact ha) rfl
theorem c_231 [Inhabited fz_] (h : CB b M N a) (hb : b = 0) : Ex_ 1 231 [.inr (.inr 6), .inl k, .inl p] N [] (bf_ N k p) := Ev fun Qt => q_231o (CB_ok h hb).1 rfl
theorem c_234 [Inhabited fz_] (h : CB b M N a) (hb : b = 0) : Ex_ 2 234 [.inr (.inr 6)] N [] (bf_ N 1 (M 76 a)) := by
  rw [← (CB_k h).2.1]
  exact Ev fun Qt => q_234o (CB_k h).2.2 (CB_ok h hb).1 rfl
theorem c_236 [Inhabited fz_] : Ex_ 1 236 [.inr (.inr 6), .inl k, .inl p] N [] (nt_ N k p) := Ev fun Qt => q_236 rfl
/-! Q stopped -/
theorem s_227 [Inhabited fz_] (h : sp_ N) : Ex_ 1 227 [.inr (.inr 6)] N [.inl 1] N := Ei fun Qt => q_227s h ⟨rfl, rfl⟩
theorem s_244 [Inhabited fz_] (h : sp_ N) : Ex_ 3 244 [.inr (.inr 6), .inl x] N [] N := Ev fun Qt => q_244s h rfl
theorem s_233 [Inhabited fz_] (h : sp_ N) : Ex_ 3 233 [.inr (.inr 6)] N [.inl (N 6 12)] N := Ei fun Qt => q_233s h ⟨rfl, rfl⟩
theorem s_249 [Inhabited fz_] (h : sp_ N) : Ex_ 3 249 [.inr (.inr 6)] N [.inl 0] N := Ei fun Qt => q_249s h ⟨rfl, rfl⟩
theorem s_228 [Inhabited fz_] (h : sp_ N) : Ex_ 3 228 [.inr (.inr 6), .inl x] N [.inl 0] N := Ei fun Qt => q_228s h ⟨rfl, rfl⟩
end CHa
end T422_ch
section T423_cr
/-! charts: the relation while a chart's text is read; names of insts and signals -/
def levQ (N : mm_) (j : Int) : Int := if j = 0 then -1 else N 263 (j - 1)
def rowQ (N : mm_) (j : Int) : Int := if j = 0 then 0 else N 264 (j - 1)
def lvL (N : mm_) (l j : Int) : Int := if j = 0 then -1 else N 260 (3 * l + (j - 1))
def rwL (N : mm_) (l j : Int) : Int := if j = 0 then 0 else N 261 (3 * l + (j - 1))
def SDR (M : mm_) (u v : Int) : Prop := (u = -2 ∧ v = -1) ∨ (u = v ∧ 0 ≤ u ∧ u < M 0 77) ∨ (u = -1 ∧ v = -1 ∧ M 0 92 ≠ 0)
def CNTc (M N : mm_) : Prop := (N 6 170 = M 0 77 ∧ 0 ≤ M 0 77 ∧ M 0 77 ≤ 8) ∧ (N 6 171 = M 0 76 ∧ 0 ≤ M 0 76 ∧ M 0 76 ≤ 40) ∧ (N 6 172 = M 0 78 ∧ 0 ≤ M 0 78 ∧ M 0 78 ≤ 6) ∧ (N 6 186 = M 0 79 ∧ 0 ≤ M 0 79 ∧ M 0 79 ≤ 3)
def INS (M N : mm_) : Prop := ∀ k, 0 ≤ k → k < M 0 77 → gdB M (M 44 k) ∧ M 75 (M 44 k) = 100 ∧ N 254 k = N 151 (M 44 k) ∧ N 255 k = M 45 k
def LIN (M N : mm_) (l : Int) : Prop := SDR M (M 46 l) (N 256 l) ∧ SDR M (M 47 l) (N 257 l) ∧ M 48 l = N 258 l ∧ (0 ≤ N 259 l ∧ N 259 l ≤ 3) ∧ M 49 l = lvL N l (N 259 l) ∧ M 50 l = rwL N l (N 259 l) ∧ ∀ j, 0 ≤ j → j < N 259 l → (0 ≤ N 260 (3 * l + j) ∧ N 260 (3 * l + j) < M 0 78) ∧ M 52 (N 260 (3 * l + j)) = lvL N l j ∧ M 53 (N 260 (3 * l + j)) = rwL N l j
def LNSc (M N : mm_) : Prop := ∀ l, 0 ≤ l → l < M 0 76 → LIN M N l
def OPN (M N : mm_) : Prop := (M 0 94 = levQ N (M 0 79) ∧ M 0 95 = rowQ N (M 0 79)) ∧ ∀ j, 0 ≤ j → j < M 0 79 → (0 ≤ N 263 j ∧ N 263 j < M 0 78) ∧ M 52 (N 263 j) = levQ N j ∧ M 53 (N 263 j) = rowQ N j ∧ 0 ≤ N 264 j ∧ (N 266 (N 263 j) = 0 → N 264 j + 1 = M 51 (N 263 j)) ∧ ∀ i, 0 ≤ i → i < j → N 263 i < N 263 j
def ALT (M N : mm_) : Prop := ∀ k, 0 ≤ k → k < M 0 78 → M 51 k = N 262 k ∧ 1 ≤ M 51 k ∧ M 51 k ≤ 4 ∧ BV (N 266 k)
def NTE (b : Int) (M N : mm_) : Prop := 0 ≤ M 0 92 ∧ (b = 1 → N 6 13 = M 0 92 ∧ (M 0 92 ≠ 0 → N 6 14 = M 0 93))
def CR (b : Int) (M N : mm_) (a : Int) : Prop := CB b M N a ∧ CNTc M N ∧ INS M N ∧ LNSc M N ∧ OPN M N ∧ ALT M N ∧ NTE b M N
/-- X's names of signals against Q's -/
def SGP (M N : mm_) : Prop := (0 ≤ M 4 0 ∧ M 4 0 ≤ 20 ∧ N 6 17 = M 4 0) ∧ (∀ s, 0 ≤ s → s < M 4 0 → 0 ≤ M 43 s ∧ M 43 s ≤ 10) ∧ ∀ t s, gdB M t → M 75 t = 100 → 0 ≤ s → s < M 4 0 → ((M 43 s = M 77 t - M 76 t ∧ ∀ i, 0 ≤ i → i < M 43 s → M 42 (10 * s + i) = M 74 (M 76 t + i)) ↔ N 152 s = N 151 t)
def xtL : List Nat := [0, 44, 45, 46, 47, 48, 49, 50]
def xtI : List Int := [75, 76, 77, 92, 93]
def qtL : List Nat := [6, 254, 255, 256, 257, 258, 259, 260, 261]
def qtI : List Int := [12, 13, 14, 170, 171]
def XTc (M M' : mm_) : Prop := (∀ r, r ∉ xtL → M' r = M r) ∧ ∀ i, i ∉ xtI → M' 0 i = M 0 i
def QT9 (N N' : mm_) : Prop := (∀ r, r ∉ qtL → N' r = N r) ∧ ∀ i, i ∉ qtI → N' 6 i = N 6 i
section CRa
variable {b : Int} {M N M' N' M1 N1 M2 N2 : mm_} {a k f t x c w p i u v : Int}
theorem XT_rf [Inhabited fz_] : XTc M M := ⟨fun _ _ => rfl, fun _ _ => rfl⟩
theorem QT_rf [Inhabited fz_] : QT9 N N := ⟨fun _ _ => rfl, fun _ _ => rfl⟩
theorem XT_tr [Inhabited fz_] (h : XTc M M1) (g : XTc M1 M2) : XTc M M2 := ⟨fun r hr => by rw [g.1 r hr, h.1 r hr], fun i hi => by rw [g.2 i hi, h.2 i hi]⟩
theorem QT_tr [Inhabited fz_] (h : QT9 N N1) (g : QT9 N1 N2) : QT9 N N2 := ⟨fun r hr => by rw [g.1 r hr, h.1 r hr], fun i hi => by rw [g.2 i hi, h.2 i hi]⟩
theorem XT_0 [Inhabited fz_] (h : XTc M M1) (hi : i ∈ xtI) : XTc M (up_ M1 0 i v) := ⟨fun r hr => by rw [up_ne (by rintro rfl; exact hr (by decide))]; exact h.1 r hr, fun j hj => by rw [upo (by rintro rfl; exact hj hi)]; exact h.2 j hj⟩
theorem QT_6 [Inhabited fz_] (h : QT9 N N1) (hi : i ∈ qtI) : QT9 N (up_ N1 6 i v) := ⟨fun r hr => by rw [up_ne (by rintro rfl; exact hr (by decide))]; exact h.1 r hr, fun j hj => by rw [upo (by rintro rfl; exact hj hi)]; exact h.2 j hj⟩
theorem XT_r [Inhabited fz_] {r : Nat} (h : XTc M M1) (hr : r ∈ xtL) (h0 : r ≠ 0) : XTc M (up_ M1 r i v) := ⟨fun r' hr' => by rw [up_ne (by rintro rfl; exact hr' hr)]; exact h.1 r' hr', fun j hj => by rw [up_ne (Ne.symm h0)]; exact h.2 j hj⟩
theorem QT_r [Inhabited fz_] {r : Nat} (h : QT9 N N1) (hr : r ∈ qtL) (h0 : r ≠ 6) : QT9 N (up_ N1 r i v) := ⟨fun r' hr' => by rw [up_ne (by rintro rfl; exact hr' hr)]; exact h.1 r' hr', fun j hj => by rw [up_ne (Ne.symm h0)]; exact h.2 j hj⟩
theorem XT_bd [Inhabited fz_] (h : XTc M M1) : XTc M (bdX M1 f p) := XT_0 (XT_0 h (by decide)) (by decide)
theorem QT_bf [Inhabited fz_] (h : QT9 N N1) : QT9 N (bf_ N1 f p) := QT_6 (QT_6 h (by decide)) (by decide)
theorem QT_nx [Inhabited fz_] (h : QT9 N N1) : QT9 N (nx_ N1) := QT_6 h (by decide)
theorem XT_nt [Inhabited fz_] (h : XTc M M1) : XTc M (ntX M1 k t) := by
  unfold ntX; split
  · exact XT_bd h
  · exact h
theorem QT_nt [Inhabited fz_] (h : QT9 N N1) : QT9 N (nt_ N1 k p) := by
  unfold nt_; split
  · exact h
  · split
    · exact QT_bf h
    · exact h
theorem SGP_c [Inhabited fz_] (h : SGP M N) (hx : XTc M M') (hq : QT9 N N') : SGP M' N' := by
  unfold SGP gdB at *
  rw [hx.1 4 (by decide), hx.1 42 (by decide), hx.1 43 (by decide), hx.1 74 (by decide), hx.1 75 (by decide), hx.1 76 (by decide), hx.1 77 (by decide), hq.1 151 (by decide), hq.1 152 (by decide), hq.2 17 (by decide)]
  exact h
/-- only the token and the notes have changed -/
def xsm (M M' : mm_) : Prop := (∀ r, r ≠ 0 → M' r = M r) ∧ (∀ i, i ∉ [75, 92, 93] → M' 0 i = M 0 i) ∧ (M 0 92 ≠ 0 → M' 0 92 ≠ 0)
def qsm (N N' : mm_) : Prop := (∀ r, r ≠ 6 → N' r = N r) ∧ ∀ i, i ∉ [12, 13, 14] → N' 6 i = N 6 i
theorem CR_sm [Inhabited fz_] (h : CR b M N a) (hx : xsm M M') (hq : qsm N N') {a' : Int} (h1 : CB b M' N' a') (h2 : NTE b M' N') : CR b M' N' a' := by
  obtain ⟨_, n1, n2, n3, n4, n5, _⟩ := h
  have xr := hx.1
  have x76 := hx.2.1 76 (by decide)
  have x77 := hx.2.1 77 (by decide)
  have x78 := hx.2.1 78 (by decide)
  have x79 := hx.2.1 79 (by decide)
  have x94 := hx.2.1 94 (by decide)
  have x95 := hx.2.1 95 (by decide)
  have sd : ∀ u v, SDR M u v → SDR M' u v := fun u v h => by
    unfold SDR at *; rw [x77]
    rcases h with h | h | ⟨e1, e2, e3⟩
    · exact .inl h
    · exact .inr (.inl h)
    · exact .inr (.inr ⟨e1, e2, hx.2.2 e3⟩)
  refine ⟨h1, ?_, ?_, ?_, ?_, ?_, h2⟩
  · unfold CNTc; rw [x76, x77, x78, x79, hq.2 170 (by decide), hq.2 171 (by decide), hq.2 172 (by decide), hq.2 186 (by decide)]; exact n1
  · unfold INS gdB at *; rw [x77, xr 44 (by decide), xr 45 (by decide), xr 75 (by decide), hq.1 254 (by decide), hq.1 255 (by decide), hq.1 151 (by decide)]; exact n2
  · intro l l0 l1
    rw [x76] at l1
    have := n3 l l0 l1
    unfold LIN lvL rwL at *
    rw [x78, xr 46 (by decide), xr 47 (by decide), xr 48 (by decide), xr 49 (by decide), xr 50 (by decide), xr 52 (by decide), xr 53 (by decide), hq.1 256 (by decide), hq.1 257 (by decide), hq.1 258 (by decide), hq.1 259 (by decide), hq.1 260 (by decide), hq.1 261 (by decide)]
    exact ⟨sd _ _ this.1, sd _ _ this.2.1, this.2.2⟩
  · unfold OPN levQ rowQ at *
    rw [x78, x79, x94, x95, xr 51 (by decide), xr 52 (by decide), xr 53 (by decide), hq.1 263 (by decide), hq.1 264 (by decide), hq.1 266 (by decide)]; exact n4
  · unfold ALT at *; rw [x78, xr 51 (by decide), hq.1 262 (by decide), hq.1 266 (by decide)]; exact n5
theorem CR_nx [Inhabited fz_] (h : CR b M N a) (h1 : M 75 a ≠ 102) (h2 : M 75 a ≠ 103) (h3 : a < 1200) : CR b (up_ M 0 75 (a + 1)) (nx_ N) (a + 1) := by
  refine CR_sm h ⟨fun r hr => up_ne hr, fun i hi => upo (by rintro rfl; exact hi (by decide)), fun e => by rw [upo (by decide)]; exact e⟩ ⟨fun r hr => up_ne hr, fun i hi => upo (by rintro rfl; exact hi (by decide))⟩ (CB_nx h.1 h1 h2 h3) ?_
  have := h.2.2.2.2.2.2
  show NTE b (up_ M 0 75 (a + 1)) (nx_ N)
  unfold NTE nx_ at *
  rw [upo (by decide), upo (by decide), upo (by decide), upo (by decide)]
  exact this
theorem ntX_92 [Inhabited fz_] (hk : k ≠ 0) : ntX M k t 0 92 ≠ 0 := by
  unfold ntX bdX
  split
  · rw [upo (by decide), up_at]; exact hk
  · rename_i c; (clear hk; lia)
theorem ntX_s [Inhabited fz_] (hk : k ≠ 0) : xsm M (ntX M k t) := by
  refine ⟨fun r hr => ?_, fun i hi => ?_, fun _ => ntX_92 hk⟩
  · unfold ntX bdX; split
    · rw [up_ne hr, up_ne hr]
    · rfl
  · unfold ntX bdX; split
    · rw [upo (by rintro rfl; exact hi (by decide)), upo (by rintro rfl; exact hi (by decide))]
    · rfl
theorem ntQ_s [Inhabited fz_] : qsm N (nt_ N k p) := by
  refine ⟨fun r hr => ?_, fun i hi => ?_⟩
  · unfold nt_ bf_; split
    · rfl
    · split
      · rw [up_ne hr, up_ne hr]
      · rfl
  · unfold nt_ bf_; split
    · rfl
    · split
      · rw [upo (by rintro rfl; exact hi (by decide)), upo (by rintro rfl; exact hi (by decide))]
      · rfl
theorem CR_nt [Inhabited fz_] (h : CR b M N a) (hk : 0 < k) (hp : p = M 76 t) : CR b (ntX M k t) (nt_ N k p) a := by
  have hs := ntX_s (M := M) (k := k) (t := t) (by (clear h hp; omega))
  have hq := ntQ_s (N := N) (k := k) (p := p)
  refine CR_sm h hs hq (CB_c h.1 (fun r hr => hs.1 r (by rintro rfl; exact absurd hr (by decide))) (fun r hr => hq.1 r (by rintro rfl; exact absurd hr (by decide))) ?_ ?_ (hq.2 16 (by decide)) fun e => ?_) ?_
  · unfold ntX bdX; split
    · rw [upo (by decide), upo (by decide)]
    · rfl
  · unfold nt_ bf_; split
    · rfl
    · split
      · rw [upo (by decide), upo (by decide)]
      · rfl
  · unfold nt_; rw [if_pos (by rw [h.1.2.2.2.1.1]; exact e)]
  · obtain ⟨n1, n2⟩ := h.2.2.2.2.2.2
    refine ⟨?_, fun e => ?_⟩
    · unfold ntX bdX; split
      · rw [upo (by decide), up_at]; (clear h hp hs hq n1 n2; lia)
      · exact n1
    · obtain ⟨e1, e2⟩ := n2 e
      unfold nt_ ntX bdX bf_
      rw [if_neg (by rw [h.1.2.2.2.1.1]; (clear h hk hp hs hq n1 n2 e1 e2; lia))]
      by_cases z : M 0 92 = 0
      · rw [if_pos (.inl (by (clear h hk hp hs hq n1 n2 e e2; lia))), if_pos (.inl z), upo (by decide), up_at, upo (by decide), up_at, up_at, up_at]
        exact ⟨rfl, fun _ => hp⟩
      · have e3 := e2 z
        by_cases y : M 0 92 = 0 ∨ M 76 t < M 0 93 ∨ M 76 t = M 0 93 ∧ k < M 0 92
        · rw [if_pos (by (clear h hk hs hq n2 e e2 z; omega)), if_pos y, upo (by decide), up_at, upo (by decide), up_at, up_at, up_at]
          exact ⟨rfl, fun _ => hp⟩
        · rw [if_neg (by (clear h hk hs hq n1 n2 e e2 z; lia)), if_neg y]
          exact ⟨e1, e2⟩
/-- an inst of a name -/
theorem j_79 [Inhabited fz_] (h : CR b M N a) (ht : gdB M t) (hk : M 75 t = 100) : ∃ v, (v = -1 ∨ (0 ≤ v ∧ v < M 0 77)) ∧ Ex_ 2 79 [.inr (.inr 0), .inl t] M [.inl v] M ∧ Ex_ 1 400 [.inr (.inr 6), .inr (.inl (N 151 t))] N [.inl v] N := by
  obtain ⟨hC, ⟨⟨n1, n2, n3⟩, _⟩, hI, _⟩ := h
  have T := hC.1
  have key : ∀ (n : Nat) (i : Int), M 0 77 - i = n → 0 ≤ i → ∃ v, (v = -1 ∨ (0 ≤ v ∧ v < M 0 77)) ∧ (∀ (V : vv_) (Qr : qr_) (Qt : qt_), Cl_ wd0 (Tr_ wd0 pg0 1) V Qr Qt m_79 → Wk_ V → Qr [.inl v] M → V 2 [rr 0, ii t, ii i] [] M) ∧ (∀ (V : vv_) (Qr : qr_) (Qt : qt_), Cl_ wd0 (Tr_ wd0 pg0 0) V Qr Qt m_400 → Wk_ V → Qr [.inl v] N → V 2 [rr 6, jj (N 151 t), none, ii i] [] N) := by
    intro n
    induction n with
    | zero =>
      intro i hi i0
      refine ⟨-1, .inl rfl, fun V Qr Qt hV hW g => b_79_2 (Tr_mono _) hV hW _ _ _ ?_, fun V Qr Qt hV hW g => b_400_2 (Tr_mono _) hV hW _ _ _ ?_⟩
      · rw [if_neg (by (clear ht hk hC n1 n2 n3 hI T i0 hV hW g; omega))]; exact g
      · rw [if_neg (by omega)]; exact g
    | succ n ih =>
      intro i hi i0
      have hi9 := hI i i0 (by omega)
      have tt := T t ht
      have ti := T (M 44 i) hi9.1
      have lk := ti.2.2.2.2.2.2 t ht hi9.2.1 hk
      have wi : w32 (i + 1) = i + 1 := w32_id (by omega) (by (clear ht hk hC n1 hI T ih i0 hi9 tt ti lk; omega))
      by_cases c : N 151 (M 44 i) = N 151 t
      · refine ⟨i, .inr ⟨i0, by omega⟩, fun V Qr Qt hV hW g => b_79_2 (Tr_mono _) hV hW _ _ _ ?_, fun V Qr Qt hV hW g => b_400_2 (Tr_mono _) hV hW _ _ _ ?_⟩
        · rw [if_pos (by omega)]
          refine ⟨by (clear ht hk hC n1 hI T ih hi9 tt ti lk c hV hW g; omega), s_199b (d := 0) (by have := hi9.1.1; have := hi9.1.2.1; (clear ht hk hC n1 n2 n3 hI T ih hi i0 hi9 tt ti lk wi c hV hW g; omega)) (by have := ht.1; have := ht.2.1; (clear ht hk hC n1 n2 n3 hI T ih hi i0 hi9 tt ti lk wi c hV hW g; omega)) ti.2.2.2.1.1 ti.2.2.2.1.2.1 ti.2.2.2.1.2.2 tt.2.2.2.1.1 tt.2.2.2.1.2.1 tt.2.2.2.1.2.2 (fun _ _ => ?_) (fun z => absurd (lk.2 c) z)⟩
          rw [if_neg (by decide)]; exact g
        · rw [if_pos (by (clear ht hk hC n2 n3 hI T ih i0 hi9 tt ti lk wi c hV hW g; omega)), if_pos (cmp9.2 (by rw [hi9.2.2.1]; exact c))]
          exact ⟨by omega, g⟩
      · obtain ⟨v, v1, v2, v3⟩ := ih (i + 1) (by omega) (by (clear ht hk hC n1 n2 n3 hI T ih hi hi9 tt ti lk c; omega))
        refine ⟨v, v1, fun V Qr Qt hV hW g => b_79_2 (Tr_mono _) hV hW _ _ _ ?_, fun V Qr Qt hV hW g => b_400_2 (Tr_mono _) hV hW _ _ _ ?_⟩
        · rw [if_pos (by omega)]
          refine ⟨by omega, s_199b (d := 0) (by have := hi9.1.1; have := hi9.1.2.1; omega) (by have := ht.1; have := ht.2.1; omega) ti.2.2.2.1.1 ti.2.2.2.1.2.1 ti.2.2.2.1.2.2 tt.2.2.2.1.1 tt.2.2.2.1.2.1 tt.2.2.2.1.2.2 (fun z1 z2 => absurd (lk.1 ⟨z1, z2⟩) c) (fun _ => ?_)⟩
          rw [if_pos rfl, wi]; exact v2 V Qr Qt hV hW g
        · rw [if_pos (by omega), if_neg (fun z => c (by rw [← hi9.2.2.1]; exact cmp9.1 z)), wi]
          exact ⟨by omega, v3 V Qr Qt hV hW g⟩
  obtain ⟨v, v1, v2, v3⟩ := key (M 0 77).toNat 0 (by omega) (by (clear ht hk hC n1 n2 n3 hI T key; omega))
  exact ⟨v, v1, fun Qr Qt g => t_79 fun V hV hW => b_79_0 (Tr_mono _) hV hW _ _ (v2 V Qr Qt hV hW g), fun Qr Qt g => t_400 fun V hV hW => b_400_0 (Tr_mono _) hV hW _ _ (v3 V Qr Qt hV hW g)⟩
/-- a signal of a name -/
theorem x_84l [Inhabited fz_] (ht : 0 ≤ t ∧ t ≤ 1200) (hp : 0 ≤ M 76 t ∧ M 77 t ≤ 5000) {s : Int} (hs : 0 ≤ s ∧ s < 20) (h43 : M 43 s = M 77 t - M 76 t) (hz : M 43 s ≤ 10) : ∀ (n : Nat) (i : Int), M 43 s - i = n → 0 ≤ i → ∀ (V : vv_) (Qr : qr_) (Qt : qt_), Cl_ wd0 (Tr_ wd0 pg0 0) V Qr Qt m_84 → Wk_ V → ((∀ j, i ≤ j → j < M 43 s → M 42 (10 * s + j) = M 74 (M 76 t + j)) → Qr [.inl s] M) → (¬ (∀ j, i ≤ j → j < M 43 s → M 42 (10 * s + j) = M 74 (M 76 t + j)) → V 22 [rr 0, ii t, ii (M 77 t - M 76 t), ii (s + 1), none, none] [] M) → V 53 [rr 0, ii t, ii (M 77 t - M 76 t), ii s, ii 1, ii i] [] M := by
  intro n
  have ws : w32 (s + 1) = s + 1 := w32_id (by (clear ht hp h43 hz; omega)) (by omega)
  induction n with
  | zero =>
    intro i hi i0 V Qr Qt hV hW g1 g2
    refine b_84_53 (Tr_mono _) hV hW _ _ _ _ _ _ ?_
    rw [if_neg (by omega), if_neg (by decide)]
    exact g1 fun j j0 j1 => by omega
  | succ n ih =>
    intro i hi i0 V Qr Qt hV hW g1 g2
    refine b_84_53 (Tr_mono _) hV hW _ _ _ _ _ _ ?_
    rw [if_pos (by omega), if_neg (by decide), w32_id (x := 10 * s) (by omega) (by (clear ht hp h43 hz ih hi i0 hV hW g1 g2; lia)), w32_id (x := 10 * s + i) (by (clear ht hp h43 hz ih hi hV hW g1 g2; lia)) (by omega), w32_id (x := M 76 t + i) (by (clear ht hs hz ws ih hV hW g1 g2; omega)) (by (clear ht hs hz ws ih i0 hV hW g1 g2; omega)), w32_id (x := i + 1) (by (clear ht hp hs h43 hz ws ih hi hV hW g1 g2; omega)) (by (clear ht hp hs h43 ws ih i0 hV hW g1 g2; omega))]
    refine ⟨by omega, fun _ => ⟨by omega, by omega, fun _ => ?_⟩⟩
    by_cases c : M 42 (10 * s + i) = M 74 (M 76 t + i)
    · rw [if_pos c]
      refine ih (i + 1) (by (clear ht hp hs h43 hz ws ih i0 hV hW g1 g2 c; omega)) (by omega) V Qr Qt hV hW (fun z => g1 fun j j0 j1 => ?_) (fun z => g2 fun y => z fun j j0 j1 => y j (by omega) j1)
      by_cases e : j = i
      · subst e; exact c
      · exact z j (by (clear ht hp hs h43 hz ws ih hi i0 hV hW g1 g2 c z j1; lia)) j1
    · rw [if_neg c]
      refine b_84_53 (Tr_mono _) hV hW _ _ _ _ _ _ ?_
      have := g2 (fun y => c (y i (by omega) (by omega)))
      rw [ws]
      split
      · rw [if_pos rfl, if_pos rfl]; exact this
      · rw [if_pos rfl]; exact this
theorem j_84 [Inhabited fz_] (h : SGP M N) (hT : TksB M N) (ht : gdB M t) (hk : M 75 t = 100) : ∃ v, -1 ≤ v ∧ Ex_ 1 84 [.inr (.inr 0), .inl t] M [.inl v] M ∧ Ex_ 1 251 [.inr (.inr 6), .inr (.inl (N 151 t))] N [.inl v] N := by
  obtain ⟨⟨h1, h2, h3⟩, h4, h5⟩ := h
  have ht9 : 0 ≤ t ∧ t ≤ 1200 := ⟨ht.1, ht.2.1⟩
  have tt := (hT t ht).2.2.2.1
  have wn : w32 (M 77 t - M 76 t) = M 77 t - M 76 t := w32_id (by omega) (by omega)
  have key : ∀ (n : Nat) (s : Int), M 4 0 - s = n → 0 ≤ s → ∀ (V : vv_) (Qr : qr_) (Qt : qt_), Cl_ wd0 (Tr_ wd0 pg0 0) V Qr Qt m_84 → Wk_ V → Qr [.inl (fi_ (fun i => N 152 i) (N 151 t) n s)] M → V 22 [rr 0, ii t, ii (M 77 t - M 76 t), ii s, none, none] [] M := by
    intro n
    induction n with
    | zero =>
      intro s hs s0 V Qr Qt hV hW g
      refine b_84_22 (Tr_mono _) hV hW _ _ _ _ ?_
      rw [if_neg (by (clear hT ht hk h1 h2 h4 h5 ht9 tt wn s0 hV hW g; lia))]
      exact g
    | succ n ih =>
      intro s hs s0 V Qr Qt hV hW g
      refine b_84_22 (Tr_mono _) hV hW _ _ _ _ ?_
      rw [if_pos (by omega)]
      refine ⟨by omega, ?_⟩
      have h5 := h5 t s ht hk s0 (by omega)
      have e : fi_ (fun i => N 152 i) (N 151 t) (n + 1) s = if N 152 s = N 151 t then s else fi_ (fun i => N 152 i) (N 151 t) n (s + 1) := rfl
      rw [e] at g
      have no : ¬ (N 152 s = N 151 t) → V 22 [rr 0, ii t, ii (M 77 t - M 76 t), ii (s + 1), none, none] [] M := fun z => ih (s + 1) (by omega) (by omega) V Qr Qt hV hW (by rw [if_neg z] at g; exact g)
      have ws : w32 (s + 1) = s + 1 := w32_id (by omega) (by omega)
      by_cases c : M 43 s = M 77 t - M 76 t
      · rw [if_pos c]
        refine x_84l ht9 ⟨tt.1, tt.2.2⟩ (by (clear hT ht hk h4 ht9 tt wn ih hV hW g h5 e no c; omega)) c (h4 s s0 (by omega)).2 (M 43 s).toNat 0 (by have := (h4 s s0 (by omega)).1; omega) (by omega) V Qr Qt hV hW (fun z => ?_) (fun z => no fun y => z (h5.2 y).2)
        rw [if_pos (h5.1 ⟨c, z⟩)] at g; exact g
      · rw [if_neg c]
        have := no (fun y => c (h5.2 y).1)
        refine b_84_53 (Tr_mono _) hV hW _ _ _ _ _ _ ?_
        rw [ws]
        split
        · rw [if_pos rfl, if_pos rfl]; exact this
        · rw [if_pos rfl]; exact this
  have r := fi_r (fun i => N 152 i) (N 151 t) (M 4 0).toNat 0
  refine ⟨fi_ (fun i => N 152 i) (N 151 t) (M 4 0).toNat 0, by omega, fun Qr Qt g => t_84 fun V hV hW => b_84_0 (Tr_mono _) hV hW _ _ ⟨by omega, by omega, ?_⟩, Ei fun Qt => q_251 (by (clear hT ht hk h4 h5 ht9 tt wn key r; lia)) (by (clear hT ht hk h4 h5 ht9 tt wn key r; lia)) ⟨rfl, rfl⟩⟩
  rw [wn]
  exact key (M 4 0).toNat 0 (by (clear hT ht hk h4 h5 ht9 tt wn key r g hV hW; lia)) (by omega) V Qr Qt hV hW g
end CRa
end T423_cr
section T424_in
/-! charts: an inst (X 78 | Q 399) -/
def QL (N N' : mm_) : Prop := RC 5 m_398 42 [rr 6] N 42 [rr 6] N'
def QEc (N N' : mm_) : Prop := ∀ (V : vv_) (Qr : qr_) (Qt : qt_), Cl_ wd0 (Tr_ wd0 pg0 5) V Qr Qt m_398 → Wk_ V → Qr [] N' → V 42 [rr 6] [] N
def FQc (M' N' : mm_) : Prop := sp_ N' ∧ N' 6 13 = M' 0 92 ∧ N' 6 14 = M' 0 93
def JO (d n : Nat) (as : List pv_) (b : Int) (M N : mm_) (R : mm_ → mm_ → Prop) : Prop := (∃ M' N', Ex_ d n as M [] M' ∧ QL N N' ∧ R M' N' ∧ XTc M M' ∧ QT9 N N') ∨ (∃ M', Th d n as M M' ∧ XTc M M' ∧ (b = 0 → ∃ N', QEc N N' ∧ FQc M' N' ∧ QT9 N N'))
section INa
variable {b : Int} {M N M' N' M1 N1 M2 N2 : mm_} {a k f t x c w p i u v : Int}
theorem FQc_b [Inhabited fz_] (h : N 6 16 = 0) (hf : 0 < f) : FQc (bdX M f p) (bf_ N f p) := ⟨bf_sp h hf, by unfold bdX bf_; rw [upo (by decide), up_at, upo (by decide), up_at], by unfold bdX bf_; rw [up_at, up_at]⟩
theorem QEc_s [Inhabited fz_] (h : sp_ N) : QEc N N := fun V Qr Qt hV hW g => b_398_42 (Tr_mono _) hV hW _ (Ex_le (d := 1) (by decide) (s_227 h) _ _ (ri_i (by
  rw [if_neg (by decide)]
  refine Ex_le (d := 1) (by decide) (s_227 h) _ _ (ri_i ?_)
  rw [if_neg (by decide)]; exact g)))
theorem QL_E [Inhabited fz_] (h : QL N N1) (g : QEc N1 N') : QEc N N' := fun V Qr Qt hV hW z => h V Qr Qt hV hW (g V Qr Qt hV hW z)
theorem CB_16 [Inhabited fz_] (h : CB b M N a) (hb : b = 0) : N 6 16 = 0 := by rw [h.2.2.2.1.1]; exact hb
theorem kq_0c [Inhabited fz_] (h : CB b M N a) : N 149 (N 6 12) = 0 ↔ M 75 a = 102 := by have := (CB_k h).1; unfold KQ at this; (clear h; omega)
theorem kq_1c [Inhabited fz_] (h : CB b M N a) : N 149 (N 6 12) = 1 ↔ M 75 a = 100 := by have := (CB_k h).1; unfold KQ at this; (clear h; omega)
/-- Q's loop at an inst -/
theorem q_in [Inhabited fz_] (h : CB b M N a) (hk : M 75 a = 45) {V : vv_} {Qr : qr_} {Qt : qt_} (hV : Cl_ wd0 (Tr_ wd0 pg0 5) V Qr Qt m_398) (hW : Wk_ V) (hN : Ex_ 3 228 [.inr (.inr 6), .inl 45] N [.inl 1] N1) (g : Tr_ wd0 pg0 5 399 [.inr (.inr 6)] N1 (rv_ fun M16 => V 42 [rr 6] [] M16) Qt) : V 42 [rr 6] [] N := b_398_42 (Tr_mono _) hV hW _ (Ex_le (d := 1) (by decide) (c_227 h) _ _ (ri_i (by
  rw [if_pos rfl]
  refine ⟨(CB_k h).2.2, ?_⟩
  rw [if_neg (fun z => by have := (kq_0c h).1 z; omega)]
  refine Ex_le (d := 3) (by decide) hN _ _ (ri_i ?_)
  rw [if_neg (by decide)]
  exact g)))
theorem q_ln [Inhabited fz_] (h : CB b M N a) (hk : M 75 a = 100 ∨ M 75 a = 25) {V : vv_} {Qr : qr_} {Qt : qt_} (hV : Cl_ wd0 (Tr_ wd0 pg0 5) V Qr Qt m_398) (hW : Wk_ V) (g : Tr_ wd0 pg0 5 401 [.inr (.inr 6)] N (rv_ fun M16 => V 42 [rr 6] [] M16) Qt) : V 42 [rr 6] [] N := b_398_42 (Tr_mono _) hV hW _ (Ex_le (d := 1) (by decide) (c_227 h) _ _ (ri_i (by
  rw [if_pos rfl]
  refine ⟨(CB_k h).2.2, ?_⟩
  rw [if_neg (fun z => by have := (kq_0c h).1 z; omega)]
  refine Ex_le (d := 3) (by decide) (c_228f h (by decide) (by omega)) _ _ (ri_i ?_)
  rw [if_pos rfl]
  refine ⟨(CB_k h).2.2, ?_⟩
  by_cases c : M 75 a = 100
  · rw [if_pos ((kq_1c h).2 c)]; exact g
  · rw [if_neg (fun z => c ((kq_1c h).1 z))]
    refine Ex_le (d := 1) (by decide) (c_229t h (w := 25) (by decide) (by (clear h hV hW g; lia))) _ _ (ri_i ?_)
    rw [if_neg (by decide)]; exact g)))
/-- an inst more -/
theorem CR_in [Inhabited fz_] (h : CR b M N a) (h8 : M 0 77 < 8) (ht : gdB M t) (hk : M 75 t = 100) : CR b (up_ (up_ (up_ M 44 (M 0 77) t) 45 (M 0 77) p) 0 77 (M 0 77 + 1)) (up_ (up_ (up_ N 254 (N 6 170) (N 151 t)) 255 (N 6 170) p) 6 170 (N 6 170 + 1)) a := by
  obtain ⟨h1, n1, n2, n3, n4, n5, n6⟩ := h
  obtain ⟨⟨c1, c2, c3⟩, cc⟩ := n1
  have sd : ∀ u v, SDR M u v → SDR (up_ (up_ (up_ M 44 (M 0 77) t) 45 (M 0 77) p) 0 77 (M 0 77 + 1)) u v := fun u v h => by
    unfold SDR at *; rw [up_at, upo (by decide), up_ne (by decide), up_ne (by decide)]
    rcases h with h | h | h
    · exact .inl h
    · exact .inr (.inl ⟨h.1, h.2.1, by (clear h8 ht hk h1 n2 n3 n4 n5 n6 cc c2 c3; omega)⟩)
    · exact .inr (.inr h)
  refine ⟨CB_c h1 (fun r hr => ?_) (fun r hr => ?_) ?_ ?_ ?_ (fun _ => ?_), ⟨⟨?_, ?_⟩, ?_⟩, ?_, ?_, ?_, ?_, ?_⟩
  · rw [up_ne (by rintro rfl; exact absurd hr (by decide)), up_ne (by rintro rfl; exact absurd hr (by decide)), up_ne (by rintro rfl; exact absurd hr (by decide))]
  · rw [up_ne (by rintro rfl; exact absurd hr (by decide)), up_ne (by rintro rfl; exact absurd hr (by decide)), up_ne (by rintro rfl; exact absurd hr (by decide))]
  · rw [upo (by decide), up_ne (by decide), up_ne (by decide)]
  · rw [upo (by decide), up_ne (by decide), up_ne (by decide)]
  · rw [upo (by decide), up_ne (by decide), up_ne (by decide)]
  · rw [upo (by decide), up_ne (by decide), up_ne (by decide)]
  · rw [up_at, up_at, c1]
  · rw [up_at]; (clear ht hk h1 n2 n3 n4 n5 n6 cc c3 sd; omega)
  · rw [upo (by decide), upo (by decide), upo (by decide), upo (by decide), upo (by decide), upo (by decide), up_ne (by decide), up_ne (by decide), up_ne (by decide), up_ne (by decide)]
    exact cc
  · intro k k0 k1
    rw [up_at] at k1
    unfold gdB
    rw [up_ne (r' := 44) (by decide), up_ne (r' := 44) (by decide), up_ne (r' := 45) (by decide), up_ne (r' := 75) (by decide), up_ne (r' := 75) (by decide), up_ne (r' := 75) (by decide), up_ne (r' := 254) (by decide), up_ne (r' := 254) (by decide), up_ne (r' := 255) (by decide), up_ne (r' := 151) (by decide), up_ne (r' := 151) (by decide), up_ne (r' := 151) (by decide), c1]
    by_cases e : k = M 0 77
    · subst e; rw [up_at, up_at, up_at, up_at]; exact ⟨ht, hk, rfl, rfl⟩
    · rw [upo e, upo e, upo e, upo e]
      exact n2 k k0 (by (clear h8 ht hk h1 n2 n3 n4 n5 n6 cc c2 c3 sd k0; lia))
  · intro l l0 l1
    rw [upo (by decide), up_ne (by decide), up_ne (by decide)] at l1
    have := n3 l l0 l1
    unfold LIN at this ⊢
    unfold lvL rwL at *
    rw [upo (j := 78) (by decide), up_ne (r' := 0) (by decide), up_ne (r' := 0) (by decide)]
    simp only [up_ne (show (46 : Nat) ≠ 0 by decide), up_ne (show (46 : Nat) ≠ 44 by decide), up_ne (show (46 : Nat) ≠ 45 by decide), up_ne (show (47 : Nat) ≠ 0 by decide), up_ne (show (47 : Nat) ≠ 44 by decide), up_ne (show (47 : Nat) ≠ 45 by decide), up_ne (show (48 : Nat) ≠ 0 by decide), up_ne (show (48 : Nat) ≠ 44 by decide), up_ne (show (48 : Nat) ≠ 45 by decide), up_ne (show (49 : Nat) ≠ 0 by decide), up_ne (show (49 : Nat) ≠ 44 by decide), up_ne (show (49 : Nat) ≠ 45 by decide), up_ne (show (50 : Nat) ≠ 0 by decide), up_ne (show (50 : Nat) ≠ 44 by decide), up_ne (show (50 : Nat) ≠ 45 by decide), up_ne (show (52 : Nat) ≠ 0 by decide), up_ne (show (52 : Nat) ≠ 44 by decide), up_ne (show (52 : Nat) ≠ 45 by decide), up_ne (show (53 : Nat) ≠ 0 by decide), up_ne (show (53 : Nat) ≠ 44 by decide), up_ne (show (53 : Nat) ≠ 45 by decide), up_ne (show (256 : Nat) ≠ 6 by decide), up_ne (show (256 : Nat) ≠ 254 by decide), up_ne (show (256 : Nat) ≠ 255 by decide), up_ne (show (257 : Nat) ≠ 6 by decide), up_ne (show (257 : Nat) ≠ 254 by decide), up_ne (show (257 : Nat) ≠ 255 by decide), up_ne (show (258 : Nat) ≠ 6 by decide), up_ne (show (258 : Nat) ≠ 254 by decide), up_ne (show (258 : Nat) ≠ 255 by decide), up_ne (show (259 : Nat) ≠ 6 by decide), up_ne (show (259 : Nat) ≠ 254 by decide), up_ne (show (259 : Nat) ≠ 255 by decide), up_ne (show (260 : Nat) ≠ 6 by decide), up_ne (show (260 : Nat) ≠ 254 by decide), up_ne (show (260 : Nat) ≠ 255 by decide), up_ne (show (261 : Nat) ≠ 6 by decide), up_ne (show (261 : Nat) ≠ 254 by decide), up_ne (show (261 : Nat) ≠ 255 by decide)]
    exact ⟨sd _ _ this.1, sd _ _ this.2.1, this.2.2⟩
  · unfold OPN levQ rowQ at *
    rw [upo (j := 78) (by decide), upo (j := 79) (by decide), upo (j := 94) (by decide), upo (j := 95) (by decide), up_ne (r' := 0) (by decide), up_ne (r' := 0) (by decide)]
    simp only [up_ne (show (51 : Nat) ≠ 0 by decide), up_ne (show (51 : Nat) ≠ 44 by decide), up_ne (show (51 : Nat) ≠ 45 by decide), up_ne (show (52 : Nat) ≠ 0 by decide), up_ne (show (52 : Nat) ≠ 44 by decide), up_ne (show (52 : Nat) ≠ 45 by decide), up_ne (show (53 : Nat) ≠ 0 by decide), up_ne (show (53 : Nat) ≠ 44 by decide), up_ne (show (53 : Nat) ≠ 45 by decide), up_ne (show (263 : Nat) ≠ 6 by decide), up_ne (show (263 : Nat) ≠ 254 by decide), up_ne (show (263 : Nat) ≠ 255 by decide), up_ne (show (264 : Nat) ≠ 6 by decide), up_ne (show (264 : Nat) ≠ 254 by decide), up_ne (show (264 : Nat) ≠ 255 by decide), up_ne (show (266 : Nat) ≠ 6 by decide), up_ne (show (266 : Nat) ≠ 254 by decide), up_ne (show (266 : Nat) ≠ 255 by decide)]
    exact n4
  · unfold ALT at *
    rw [upo (j := 78) (by decide), up_ne (r' := 0) (by decide), up_ne (r' := 0) (by decide)]
    simp only [up_ne (show (51 : Nat) ≠ 0 by decide), up_ne (show (51 : Nat) ≠ 44 by decide), up_ne (show (51 : Nat) ≠ 45 by decide), up_ne (show (262 : Nat) ≠ 6 by decide), up_ne (show (262 : Nat) ≠ 254 by decide), up_ne (show (262 : Nat) ≠ 255 by decide), up_ne (show (266 : Nat) ≠ 6 by decide), up_ne (show (266 : Nat) ≠ 254 by decide), up_ne (show (266 : Nat) ≠ 255 by decide)]
    exact n5
  · unfold NTE at *
    rw [upo (j := 92) (by decide), upo (j := 93) (by decide), upo (j := 13) (by decide), upo (j := 14) (by decide), up_ne (r' := 0) (by decide), up_ne (r' := 0) (by decide), up_ne (r' := 6) (by decide), up_ne (r' := 6) (by decide)]
    exact n6
end INa
end T424_in
section T425_in
/-! charts: an inst whole (X 78 | Q 399) -/
section INb
variable {b : Int} {M N M' N' M1 N1 M2 N2 : mm_} {a k f t x c w p i u v : Int}
theorem nk_of [Inhabited fz_] {κ : Int} (h : M 75 a = κ) (h1 : κ ≠ 102) (h2 : κ ≠ 103) : M 75 a ≠ 102 ∧ M 75 a ≠ 103 := ⟨by rw [h]; exact h1, by rw [h]; exact h2⟩
/-- a kind is here, or not -/
theorem Bd_or [Inhabited fz_] (h : CB b M N a) (k : Int) : (M 75 a = k ∧ a < 1200) ∨ ∃ f, Bd M a k f := by
  have := CB_a h
  by_cases c : M 75 a = k
  · by_cases e : a < 1200
    · exact .inl ⟨c, e⟩
    · exact .inr ⟨2, .inr ⟨c, by omega, rfl⟩⟩
  · exact .inr ⟨1, .inl ⟨c, rfl⟩⟩
/-- both from a place within a method: a run, or a stop -/
def JV (dx : Nat) (mx : md_) (px : Nat) (lx : lo_) (dq : Nat) (mq : md_) (pq : Nat) (lq : lo_) (b : Int) (M N : mm_) (R : mm_ → mm_ → Prop) : Prop := (∃ M' N', (∀ (V : vv_) (Qr : qr_) (Qt : qt_), Cl_ wd0 (Tr_ wd0 pg0 dx) V Qr Qt mx → Wk_ V → Qr [] M' → V px lx [] M) ∧ (∀ (V : vv_) (Qr : qr_) (Qt : qt_), Cl_ wd0 (Tr_ wd0 pg0 dq) V Qr Qt mq → Wk_ V → Qr [] N' → V pq lq [] N) ∧ R M' N' ∧ XTc M M' ∧ QT9 N N') ∨ (∃ M', (∀ (V : vv_) (Qr : qr_) (Qt : qt_), Cl_ wd0 (Tr_ wd0 pg0 dx) V Qr Qt mx → Wk_ V → Qt 7 M' → V px lx [] M) ∧ XTc M M' ∧ (b = 0 → ∃ N', (∀ (V : vv_) (Qr : qr_) (Qt : qt_), Cl_ wd0 (Tr_ wd0 pg0 dq) V Qr Qt mq → Wk_ V → Qr [] N' → V pq lq [] N) ∧ FQc M' N' ∧ QT9 N N'))
theorem jv_in [Inhabited fz_] (h : CR b M N a) (ht : gdB M t) (hk : M 75 t = 100) (h8 : M 0 77 < 8) : JV 3 m_78 70 [rr 0, ii t, none] 4 m_399 58 [rr 6, ii t, none] b M N (fun M' N' => CR b M' N' (a + 1 + 1 + 1)) := by
  have ha := CB_a h.1
  have htt : 0 ≤ t ∧ t < 1202 := ⟨ht.1, by have := ht.2.1; omega⟩
  have n77 := h.2.1.1
  rcases Bd_or h.1 261 with ⟨k1, a1⟩ | ⟨f, hf⟩
  · have nk := nk_of k1 (by decide) (by decide)
    have h1 := CR_nx h nk.1 nk.2 a1
    have x1 := x_76 (c := 61) ha h.1.2.2.1.1 (by decide) k1 a1
    have q1 := c_244 h.1 (x := 61) (by decide) k1 a1
    have fx1 : XTc M (up_ M 0 75 (a + 1)) := XT_0 XT_rf (by decide)
    have fq1 : QT9 N (nx_ N) := QT_nx QT_rf
    have e77 : (up_ M 0 75 (a + 1)) 0 77 = M 0 77 := upo (by decide)
    generalize up_ M 0 75 (a + 1) = M1 at h1 x1 fx1 e77
    generalize nx_ N = N1 at h1 q1 fq1
    have ha1 := CB_a h1.1
    rcases Bd_or h1.1 101 with ⟨k2, a2⟩ | ⟨f, hf⟩
    · have nk2 := nk_of k2 (by decide) (by decide)
      have h2 := CR_nx h1 nk2.1 nk2.2 a2
      have x2 := x_73 ha1 h1.1.2.2.1.1 k2 a2
      have q2 := c_249 h1.1 k2 a2
      have fx2 : XTc M (up_ M1 0 75 (a + 1 + 1)) := XT_0 fx1 (by decide)
      have fq2 : QT9 N (nx_ N1) := QT_nx fq1
      have e772 : (up_ M1 0 75 (a + 1 + 1)) 0 77 = M 0 77 := by rw [upo (by decide)]; exact e77
      generalize up_ M1 0 75 (a + 1 + 1) = M2 at h2 x2 fx2 e772
      generalize nx_ N1 = N2 at h2 q2 fq2
      have ha2 := CB_a h2.1
      rcases Bd_or h2.1 259 with ⟨k3, a3⟩ | ⟨f, hf⟩
      · have nk3 := nk_of k3 (by decide) (by decide)
        have h3 := CR_nx h2 nk3.1 nk3.2 a3
        have x3 := x_76 (c := 59) ha2 h2.1.2.2.1.1 (by decide) k3 a3
        have q3 := c_244 h2.1 (x := 59) (by decide) k3 a3
        have fx3 : XTc M (up_ M2 0 75 (a + 1 + 1 + 1)) := XT_0 fx2 (by decide)
        have fq3 : QT9 N (nx_ N2) := QT_nx fq2
        have e773 : (up_ M2 0 75 (a + 1 + 1 + 1)) 0 77 = M 0 77 := by rw [upo (by decide)]; exact e772
        generalize up_ M2 0 75 (a + 1 + 1 + 1) = M3 at h3 x3 fx3 e773
        generalize nx_ N2 = N3 at h3 q3 fq3
        have ht3 : gdB M3 t := gdB_c ht (fx3.1 75 (by decide))
        have hk3 : M3 75 t = 100 := by rw [fx3.1 75 (by decide)]; exact hk
        have c3 := h3.2.1.1
        refine .inl ⟨_, _, fun V Qr Qt hV hW g => b_78_70 (Tr_mono _) hV hW _ _ ?_, fun V Qr Qt hV hW g => b_399_58 (Tr_mono _) hV hW _ _ ?_, CR_in (p := M1 78 (a + 1)) h3 (by (clear h ht hk ha htt k1 a1 nk x1 fx1 h1 q1 fq1 ha1 k2 a2 nk2 x2 fx2 h2 q2 fq2 ha2 k3 a3 nk3 x3 fx3 h3 q3 fq3 ht3 hk3; omega)) ht3 hk3, XT_0 (XT_r (XT_r fx3 (by decide) (by decide)) (by decide) (by decide)) (by decide), QT_6 (QT_r (QT_r fq3 (by decide) (by decide)) (by decide) (by decide)) (by decide)⟩
        · refine x1 _ _ (rv_i ⟨?_, Ex_le (d := 2) (by decide) x2 _ _ (rv_i (x3 _ _ (rv_i ⟨?_, ?_, ?_⟩)))⟩)
          · rw [h1.1.2.2.1.1]; omega
          · (clear h ht hk ha htt k1 a1 nk x1 fx1 h1 q1 fq1 ha1 k2 a2 nk2 x2 fx2 h2 q2 fq2 ha2 k3 a3 nk3 x3 fx3 h3 q3 fq3 ht3 hk3 hV hW g; lia)
          · omega
          · rw [h1.1.2.2.1.1, w32_id (by (clear h ht hk ha htt k1 a1 nk x1 fx1 h1 q1 fq1 ha1 k2 a2 nk2 x2 fx2 h2 q2 fq2 ha2 k3 a3 nk3 x3 fx3 h3 q3 fq3 ht3 hk3 hV hW g; lia)) (by (clear h ht hk ha htt k1 a1 nk x1 fx1 h1 q1 fq1 ha1 k2 a2 nk2 x2 fx2 h2 q2 fq2 ha2 k3 a3 nk3 x3 fx3 h3 q3 fq3 ht3 hk3 hV hW g; lia))]; exact g
        · refine Ex_le (d := 3) (by decide) q1 _ _ (rv_i (Ex_le (d := 3) (by decide) q2 _ _ (ri_i (Ex_le (d := 3) (by decide) q3 _ _ (rv_i (Ex_le (d := 1) (by decide) (c_227 h3.1) _ _ (ri_i ?_)))))))
          rw [if_pos rfl, w32_id (by (clear h ht hk ha htt k1 a1 nk x1 fx1 h1 q1 fq1 ha1 k2 a2 nk2 x2 fx2 h2 q2 fq2 ha2 k3 a3 nk3 x3 fx3 h3 q3 fq3 ht3 hk3 hV hW g; lia)) (by (clear h ht hk ha htt k1 a1 nk x1 fx1 h1 q1 fq1 ha1 k2 a2 nk2 x2 fx2 h2 q2 fq2 ha2 k3 a3 nk3 x3 fx3 h3 q3 fq3 ht3 hk3 hV hW g; lia))]
          exact ⟨htt, by (clear h ht hk ha htt k1 a1 nk x1 fx1 h1 q1 fq1 ha1 k2 a2 nk2 x2 fx2 h2 q2 fq2 ha2 k3 a3 nk3 x3 fx3 h3 q3 fq3 ht3 hk3 hV hW g; lia), by omega, g⟩
      · refine .inr ⟨bdX M2 f (M2 76 (a + 1 + 1)), fun V Qr Qt hV hW g => b_78_70 (Tr_mono _) hV hW _ _ ?_, XT_bd fx2, fun hb => ⟨bf_ N2 f (M2 76 (a + 1 + 1)), fun V Qr Qt hV hW g => b_399_58 (Tr_mono _) hV hW _ _ ?_, FQc_b (CB_16 h2.1 hb) (Bd_f hf), QT_bf fq2⟩⟩
        · exact x1 _ _ (rv_i ⟨by rw [h1.1.2.2.1.1]; omega, Ex_le (d := 2) (by decide) x2 _ _ (rv_i (x_76b (c := 59) ha2 h2.1.2.2.1.1 (by decide) hf _ _ g))⟩)
        · refine Ex_le (d := 3) (by decide) q1 _ _ (rv_i (Ex_le (d := 3) (by decide) q2 _ _ (ri_i (Ex_le (d := 3) (by decide) (c_244b h2.1 hb (x := 59) (by decide) hf) _ _ (rv_i (Ex_le (d := 1) (by decide) (s_227 (sp_b (CB_16 h2.1 hb) (Bd_f hf))) _ _ (ri_i ?_)))))))
          rw [if_neg (by decide)]; exact g
    · refine .inr ⟨bdX M1 f (M1 76 (a + 1)), fun V Qr Qt hV hW g => b_78_70 (Tr_mono _) hV hW _ _ ?_, XT_bd fx1, fun hb => ?_⟩
      · exact x1 _ _ (rv_i ⟨by rw [h1.1.2.2.1.1]; omega, Th_le (d := 2) (by decide) (x_73b ha1 h1.1.2.2.1.1 hf) _ _ g⟩)
      · obtain ⟨v, q2⟩ := c_249b h1.1 hb hf
        have sp := sp_b (p := M1 76 (a + 1)) (CB_16 h1.1 hb) (Bd_f hf)
        refine ⟨bf_ N1 f (M1 76 (a + 1)), fun V Qr Qt hV hW g => b_399_58 (Tr_mono _) hV hW _ _ ?_, FQc_b (CB_16 h1.1 hb) (Bd_f hf), QT_bf fq1⟩
        refine Ex_le (d := 3) (by decide) q1 _ _ (rv_i (Ex_le (d := 3) (by decide) q2 _ _ (ri_i (Ex_le (d := 3) (by decide) (s_244 sp) _ _ (rv_i (Ex_le (d := 1) (by decide) (s_227 sp) _ _ (ri_i ?_)))))))
        rw [if_neg (by decide)]; exact g
  · refine .inr ⟨bdX M f (M 76 a), fun V Qr Qt hV hW g => b_78_70 (Tr_mono _) hV hW _ _ ?_, XT_bd XT_rf, fun hb => ?_⟩
    · exact x_76b (c := 61) ha h.1.2.2.1.1 (by decide) hf _ _ g
    · have sp := sp_b (p := M 76 a) (CB_16 h.1 hb) (Bd_f hf)
      refine ⟨bf_ N f (M 76 a), fun V Qr Qt hV hW g => b_399_58 (Tr_mono _) hV hW _ _ ?_, FQc_b (CB_16 h.1 hb) (Bd_f hf), QT_bf QT_rf⟩
      refine Ex_le (d := 3) (by decide) (c_244b h.1 hb (x := 61) (by decide) hf) _ _ (rv_i (Ex_le (d := 3) (by decide) (s_249 sp) _ _ (ri_i (Ex_le (d := 3) (by decide) (s_244 sp) _ _ (rv_i (Ex_le (d := 1) (by decide) (s_227 sp) _ _ (ri_i ?_)))))))
      rw [if_neg (by decide)]; exact g
theorem x_80n [Inhabited fz_] (ht : 0 ≤ t ∧ t ≤ 1200) (d : Nat) (hd : 1 ≤ d) : Ex_ d 80 [.inr (.inr 0), .inl k, .inl t] M [] (ntX M k t) := Ex_le hd (x_80 ht)
/-- an inst -/
theorem j_78 [Inhabited fz_] (h : CR b M N a) (hk : M 75 a = 45) : JO 4 78 [.inr (.inr 0)] b M N (fun M' N' => ∃ a', a < a' ∧ CR b M' N' a') := by
  have ha := CB_a h.1
  by_cases a1 : a < 1200
  · have nk := nk_of hk (by decide) (by decide)
    have h1 := CR_nx h nk.1 nk.2 a1
    have x1 := x_73 ha h.1.2.2.1.1 hk a1
    have q1 := c_228t h.1 (w := 45) (by decide) hk a1
    have fx1 : XTc M (up_ M 0 75 (a + 1)) := XT_0 XT_rf (by decide)
    have fq1 : QT9 N (nx_ N) := QT_nx QT_rf
    generalize up_ M 0 75 (a + 1) = M1 at h1 x1 fx1
    generalize nx_ N = N1 at h1 q1 fq1
    have ha1 := CB_a h1.1
    have e1 := h1.1.2.2.1.1
    have n1 := h1.2.1.1
    -- Q, from the loop's head into 399
    have toQ : ∀ {N'}, Ex_ 5 399 [.inr (.inr 6)] N1 [] N' → QL N N' := fun g V Qr Qt hV hW z => q_in h.1 hk hV hW q1 (g _ _ (rv_i z))
    by_cases k2 : M1 75 (a + 1) = 100
    · by_cases c8 : M1 0 77 = 8
      · refine .inr ⟨_, fun Qr Qt g => t_78 fun V hV hW => b_78_0 (Tr_mono _) hV hW _ ?_, XT_bd (f := 2) (p := M1 76 (a + 1)) fx1, fun hb => ?_⟩
        · refine Ex_le (d := 2) (by decide) x1 _ _ (rv_i (Ex_le (d := 1) (by decide) (x_74t ha1 e1 k2) _ _ (ri_i ?_)))
          rw [if_neg (by decide), if_pos c8, e1]
          refine Ex_le (d := 1) (by decide) (x_75c ha1) _ _ (rf_i ?_)
          rw [if_neg (by decide)]; exact g
        · by_cases a2 : a + 1 < 1200
          · have nk2 := nk_of k2 (by decide) (by decide)
            have h2 := CB_nx h1.1 nk2.1 nk2.2 a2
            have q2 := c_233 h1.1 k2 a2
            have fq2 : QT9 N (nx_ N1) := QT_nx fq1
            have e170 : (nx_ N1) 6 170 = 8 := by unfold nx_; rw [upo (by decide), n1.1, c8]
            have e150 : (nx_ N1) 150 (a + 1) = M1 76 (a + 1) := by unfold nx_; rw [up_ne (by decide), ← (CB_k h1.1).2.1, h1.1.2.2.1.2]
            generalize nx_ N1 = N2 at h2 q2 fq2 e170 e150
            have sp := sp_b (p := M1 76 (a + 1)) (f := 2) (CB_16 h2 hb) (by decide)
            refine ⟨_, QL_E (toQ (N' := bf_ N2 2 (M1 76 (a + 1))) fun Qr Qt g => t_399 fun V hV hW => b_399_0 (Tr_mono _) hV hW _ ?_) (QEc_s sp), FQc_b (CB_16 h2 hb) (by decide), QT_bf fq2⟩
            refine Ex_le (d := 3) (by decide) q2 _ _ (ri_i (Ex_le (d := 1) (by decide) (c_227 h2) _ _ (ri_i ?_)))
            rw [if_pos rfl, if_pos e170, e150]
            exact ⟨by omega, Ex_le (d := 1) (by decide) (c_231 h2 hb) _ _ (rv_i g)⟩
          · have sp := sp_b (p := M1 76 (a + 1)) (f := 2) (CB_16 h1.1 hb) (by decide)
            refine ⟨_, QL_E (toQ (N' := bf_ N1 2 (M1 76 (a + 1))) fun Qr Qt g => t_399 fun V hV hW => b_399_0 (Tr_mono _) hV hW _ ?_) (QEc_s sp), FQc_b (CB_16 h1.1 hb) (by decide), QT_bf fq1⟩
            refine Ex_le (d := 3) (by decide) (c_233b h1.1 hb (.inr ⟨k2, by omega, rfl⟩)) _ _ (ri_i (Ex_le (d := 1) (by decide) (s_227 sp) _ _ (ri_i ?_)))
            rw [if_neg (by decide)]; exact g
      · by_cases a2 : a + 1 < 1200
        · have nk2 := nk_of k2 (by decide) (by decide)
          have h2 := CR_nx h1 nk2.1 nk2.2 a2
          have x2 := x_73 ha1 e1 k2 a2
          have q2 := c_233 h1.1 k2 a2
          have fx2 : XTc M (up_ M1 0 75 (a + 1 + 1)) := XT_0 fx1 (by decide)
          have fq2 : QT9 N (nx_ N1) := QT_nx fq1
          have e77 : (up_ M1 0 75 (a + 1 + 1)) 0 77 = M1 0 77 := upo (by decide)
          have g2 : gdB (up_ M1 0 75 (a + 1 + 1)) (a + 1) := gdB_c h1.1.2.1 (up_ne (by decide))
          have k22 : (up_ M1 0 75 (a + 1 + 1)) 75 (a + 1) = 100 := by rw [up_ne (by decide)]; exact k2
          have e150 : (nx_ N1) 150 (a + 1) = (up_ M1 0 75 (a + 1 + 1)) 76 (a + 1) := by unfold nx_; rw [up_ne (by decide), ← h1.1.2.2.1.2, (CB_k h1.1).2.1, h1.1.2.2.1.2, up_ne (by decide)]
          generalize up_ M1 0 75 (a + 1 + 1) = M2 at h2 x2 fx2 e77 g2 k22 e150
          generalize nx_ N1 = N2 at h2 q2 fq2 e150
          obtain ⟨v, hv, xv, qv⟩ := j_79 h2 g2 k22
          -- the note
          have st : ∃ M3 N3, CR b M3 N3 (a + 1 + 1) ∧ (gdB M3 (a + 1) ∧ M3 75 (a + 1) = 100 ∧ M3 0 77 = M1 0 77) ∧ (XTc M M3 ∧ QT9 N N3) ∧ (∀ (V : vv_) (Qr : qr_) (Qt : qt_), Cl_ wd0 (Tr_ wd0 pg0 3) V Qr Qt m_78 → Wk_ V → V 70 [rr 0, ii (a + 1), none] [] M3 → V 0 [rr 0, none, none] [] M) ∧ (∀ (V : vv_) (Qr : qr_) (Qt : qt_), Cl_ wd0 (Tr_ wd0 pg0 4) V Qr Qt m_399 → Wk_ V → V 58 [rr 6, ii (a + 1), none] [] N3 → V 0 [rr 6, none, none] [] N1) := by
            have px : ∀ (V : vv_) (Qr : qr_) (Qt : qt_), Cl_ wd0 (Tr_ wd0 pg0 3) V Qr Qt m_78 → Wk_ V → (if v = -1 then V 70 [rr 0, ii (a + 1), none] [] M2 else Tr_ wd0 pg0 3 80 [.inr (.inr 0), .inl 3, .inl (a + 1)] M2 (rv_ fun M5 => V 70 [rr 0, ii (a + 1), none] [] M5) Qt) → V 0 [rr 0, none, none] [] M := fun V Qr Qt hV hW z => b_78_0 (Tr_mono _) hV hW _ (Ex_le (d := 2) (by decide) x1 _ _ (rv_i (Ex_le (d := 1) (by decide) (x_74t ha1 e1 k2) _ _ (ri_i (by
              rw [if_neg (by decide), if_neg c8, e1]
              exact Ex_le (d := 2) (by decide) x2 _ _ (rv_i (Ex_le (d := 2) (by decide) xv _ _ (ri_i z))))))))
            have pq : ∀ (V : vv_) (Qr : qr_) (Qt : qt_), Cl_ wd0 (Tr_ wd0 pg0 4) V Qr Qt m_399 → Wk_ V → (if v < 0 then V 58 [rr 6, ii (a + 1), none] [] N2 else (0 ≤ a + 1 ∧ a + 1 < 1202) ∧ Tr_ wd0 pg0 4 236 [.inr (.inr 6), .inl 3, .inl (N2 150 (a + 1))] N2 (rv_ fun M4 => V 58 [rr 6, ii (a + 1), none] [] M4) Qt) → V 0 [rr 6, none, none] [] N1 := fun V Qr Qt hV hW z => b_399_0 (Tr_mono _) hV hW _ (Ex_le (d := 3) (by decide) q2 _ _ (ri_i (Ex_le (d := 1) (by decide) (c_227 h2.1) _ _ (ri_i (by
              rw [if_pos rfl, if_neg (by rw [h2.2.1.1.1, e77]; exact c8)]
              exact ⟨by (clear h hk nk x1 fx1 h1 q1 fq1 ha1 n1 toQ k2 c8 nk2 x2 fx2 e77 g2 k22 h2 q2 fq2 e150 hv xv qv px hV hW z; lia), Ex_le (d := 1) (by decide) qv _ _ (ri_i z)⟩)))))
            rcases hv with e | e
            · refine ⟨M2, N2, h2, ⟨g2, k22, e77⟩, ⟨fx2, fq2⟩, fun V Qr Qt hV hW z => px V Qr Qt hV hW ?_, fun V Qr Qt hV hW z => pq V Qr Qt hV hW ?_⟩
              · rw [if_pos e]; exact z
              · rw [if_pos (by (clear h hk ha a1 nk x1 fx1 h1 q1 fq1 ha1 e1 n1 toQ k2 c8 a2 nk2 x2 fx2 e77 g2 k22 h2 q2 fq2 e150 xv qv px pq hV hW z; lia))]; exact z
            · have sm := ntX_s (M := M2) (k := 3) (t := a + 1) (by decide)
              refine ⟨ntX M2 3 (a + 1), nt_ N2 3 (N2 150 (a + 1)), CR_nt h2 (by decide) e150, ⟨gdB_c g2 (sm.1 75 (by decide)), by rw [sm.1 75 (by decide)]; exact k22, by rw [sm.2.1 77 (by decide)]; exact e77⟩, ⟨XT_nt fx2, QT_nt fq2⟩, fun V Qr Qt hV hW z => px V Qr Qt hV hW ?_, fun V Qr Qt hV hW z => pq V Qr Qt hV hW ?_⟩
              · rw [if_neg (by omega)]; exact x_80n (by omega) _ (by decide) _ _ (rv_i z)
              · rw [if_neg (by (clear h hk ha a1 nk x1 fx1 h1 q1 fq1 ha1 e1 n1 toQ k2 c8 a2 nk2 x2 fx2 e77 g2 k22 h2 q2 fq2 e150 xv qv px pq sm hV hW z; omega))]; exact ⟨by omega, Ex_le (d := 1) (by decide) c_236 _ _ (rv_i z)⟩
          obtain ⟨M3, N3, h3, ⟨g3, k3, e3⟩, ⟨fx3, fq3⟩, px, pq⟩ := st
          rcases jv_in h3 g3 k3 (by (clear h hk ha a1 nk x1 fx1 h1 q1 fq1 ha1 e1 toQ a2 x2 fx2 g2 k22 h2 q2 fq2 e150 xv qv h3 g3 k3 fx3 fq3 px pq; lia)) with ⟨M', N', gx, gq, hR, rx, rq⟩ | ⟨M', gx, rx, gb⟩
          · exact .inl ⟨M', N', fun Qr Qt g => t_78 fun V hV hW => px V Qr Qt hV hW (gx V Qr Qt hV hW g), toQ fun Qr Qt g => t_399 fun V hV hW => pq V Qr Qt hV hW (gq V Qr Qt hV hW g), ⟨_, by omega, hR⟩, XT_tr fx3 rx, QT_tr fq3 rq⟩
          · refine .inr ⟨M', fun Qr Qt g => t_78 fun V hV hW => px V Qr Qt hV hW (gx V Qr Qt hV hW g), XT_tr fx3 rx, fun hb => ?_⟩
            obtain ⟨N', gq, hF, rq⟩ := gb hb
            exact ⟨N', QL_E (toQ fun Qr Qt g => t_399 fun V hV hW => pq V Qr Qt hV hW (gq V Qr Qt hV hW g)) (QEc_s hF.1), hF, QT_tr fq3 rq⟩
        · refine .inr ⟨_, fun Qr Qt g => t_78 fun V hV hW => b_78_0 (Tr_mono _) hV hW _ ?_, XT_bd (f := 2) (p := M1 76 (a + 1)) fx1, fun hb => ?_⟩
          · refine Ex_le (d := 2) (by decide) x1 _ _ (rv_i (Ex_le (d := 1) (by decide) (x_74t ha1 e1 k2) _ _ (ri_i ?_)))
            rw [if_neg (by decide), if_neg c8]
            exact Th_le (d := 2) (by decide) (x_73b ha1 e1 (.inr ⟨k2, by (clear h hk nk x1 fx1 h1 q1 fq1 ha1 n1 toQ k2 c8 g hV hW; lia), rfl⟩)) _ _ g
          · have sp := sp_b (p := M1 76 (a + 1)) (f := 2) (CB_16 h1.1 hb) (by decide)
            refine ⟨_, QL_E (toQ (N' := bf_ N1 2 (M1 76 (a + 1))) fun Qr Qt g => t_399 fun V hV hW => b_399_0 (Tr_mono _) hV hW _ ?_) (QEc_s sp), FQc_b (CB_16 h1.1 hb) (by decide), QT_bf fq1⟩
            refine Ex_le (d := 3) (by decide) (c_233b h1.1 hb (.inr ⟨k2, by omega, rfl⟩)) _ _ (ri_i (Ex_le (d := 1) (by decide) (s_227 sp) _ _ (ri_i ?_)))
            rw [if_neg (by decide)]; exact g
    · refine .inr ⟨_, fun Qr Qt g => t_78 fun V hV hW => b_78_0 (Tr_mono _) hV hW _ ?_, XT_bd (f := 1) (p := M1 76 (a + 1)) fx1, fun hb => ?_⟩
      · refine Ex_le (d := 2) (by decide) x1 _ _ (rv_i (Ex_le (d := 1) (by decide) (x_74f ha1 e1 k2) _ _ (ri_i ?_)))
        rw [if_pos rfl, e1]
        refine Ex_le (d := 1) (by decide) (x_75c ha1) _ _ (rf_i ?_)
        rw [if_neg (by decide)]; exact g
      · have sp := sp_b (p := M1 76 (a + 1)) (f := 1) (CB_16 h1.1 hb) (by decide)
        refine ⟨_, QL_E (toQ (N' := bf_ N1 1 (M1 76 (a + 1))) fun Qr Qt g => t_399 fun V hV hW => b_399_0 (Tr_mono _) hV hW _ ?_) (QEc_s sp), FQc_b (CB_16 h1.1 hb) (by decide), QT_bf fq1⟩
        refine Ex_le (d := 3) (by decide) (c_233b h1.1 hb (.inl ⟨k2, rfl⟩)) _ _ (ri_i (Ex_le (d := 1) (by decide) (s_227 sp) _ _ (ri_i ?_)))
        rw [if_neg (by decide)]; exact g
  · have e12 : a = 1200 := by omega
    refine .inr ⟨_, fun Qr Qt g => t_78 fun V hV hW => b_78_0 (Tr_mono _) hV hW _ (Th_le (d := 2) (by decide) (x_73b ha h.1.2.2.1.1 (f := 2) (.inr ⟨hk, e12, rfl⟩)) _ _ g), XT_bd XT_rf, fun hb => ?_⟩
    have sp := sp_b (p := M 76 a) (f := 2) (CB_16 h.1 hb) (by decide)
    refine ⟨bf_ N 2 (M 76 a), QL_E (fun V Qr Qt hV hW z => q_in h.1 hk hV hW (c_228b h.1 hb (by decide) hk e12) (t_399 fun V' hV' hW' => b_399_0 (Tr_mono _) hV' hW' _ ?_)) (QEc_s sp), FQc_b (CB_16 h.1 hb) (by decide), QT_bf QT_rf⟩
    refine Ex_le (d := 3) (by decide) (s_233 sp) _ _ (ri_i (Ex_le (d := 1) (by decide) (s_227 sp) _ _ (ri_i ?_)))
    rw [if_neg (by decide)]; exact rv_i z
end INb
end T425_in
section T426_ln
/-! charts: a line (X 82, 83 | Q 401, 402) -/
section LNa
variable {b : Int} {M N M' N' M1 N1 M2 N2 : mm_} {a k f t x c w p i u v s l : Int}
theorem SDR_sm [Inhabited fz_] (h : SDR M u v) (hx : xsm M M') : SDR M' u v := by
  unfold SDR at *
  rw [hx.2.1 77 (by decide)]
  rcases h with h | h | ⟨h1, h2, h3⟩
  · exact .inl h
  · exact .inr (.inl h)
  · exact .inr (.inr ⟨h1, h2, hx.2.2 h3⟩)
theorem xsm_rf [Inhabited fz_] : xsm M M := ⟨fun _ _ => rfl, fun _ _ => rfl, fun h => h⟩
theorem xsm_tr [Inhabited fz_] (h : xsm M M1) (g : xsm M1 M2) : xsm M M2 := ⟨fun r hr => by rw [g.1 r hr, h.1 r hr], fun i hi => by rw [g.2.1 i hi, h.2.1 i hi], fun z => g.2.2 (h.2.2 z)⟩
theorem xsm_nx [Inhabited fz_] : xsm M (up_ M 0 75 v) := ⟨fun r hr => up_ne hr, fun i hi => upo (by rintro rfl; exact hi (by decide)), fun h => by rw [upo (by decide)]; exact h⟩
theorem xsm_XT [Inhabited fz_] (h : xsm M M') : XTc M M' := ⟨fun r hr => h.1 r (by rintro rfl; exact hr (by decide)), fun i hi => h.2.1 i (fun z => hi (by
  simp only [List.mem_cons, List.not_mem_nil, or_false] at z
  rcases z with rfl | rfl | rfl <;> decide))⟩
theorem qsm_rf [Inhabited fz_] : qsm N N := ⟨fun _ _ => rfl, fun _ _ => rfl⟩
theorem qsm_tr [Inhabited fz_] (h : qsm N N1) (g : qsm N1 N2) : qsm N N2 := ⟨fun r hr => by rw [g.1 r hr, h.1 r hr], fun i hi => by rw [g.2 i hi, h.2 i hi]⟩
theorem qsm_nx [Inhabited fz_] : qsm N (nx_ N) := ⟨fun r hr => up_ne hr, fun i hi => upo (by rintro rfl; exact hi (by decide))⟩
theorem qsm_QT [Inhabited fz_] (h : qsm N N') : QT9 N N' := ⟨fun r hr => h.1 r (by rintro rfl; exact hr (by decide)), fun i hi => h.2 i (fun z => hi (by
  simp only [List.mem_cons, List.not_mem_nil, or_false] at z
  rcases z with rfl | rfl | rfl <;> decide))⟩
/-- Q's party when stopped -/
theorem s_402 [Inhabited fz_] (h : sp_ N) : Ex_ 4 402 [.inr (.inr 6)] N [.inl (-1)] N := fun Qr Qt g => t_402 fun V hV hW => b_402_0 (Tr_mono _) hV hW _ (s_228 h _ _ (ri_i (by
  rw [if_pos rfl]
  refine s_233 h _ _ (ri_i (Ex_le (d := 1) (by decide) (s_227 h) _ _ (ri_i ?_)))
  rw [if_neg (by decide)]; exact g)))
/-- a side -/
theorem j_83 [Inhabited fz_] (h : CR b M N a) : (∃ u v M' N', Ex_ 3 83 [.inr (.inr 0)] M [.inl u] M' ∧ Ex_ 4 402 [.inr (.inr 6)] N [.inl v] N' ∧ CR b M' N' (a + 1) ∧ SDR M' u v ∧ xsm M M' ∧ qsm N N') ∨ (∃ f, 0 < f ∧ Th 3 83 [.inr (.inr 0)] M (bdX M f (M 76 a)) ∧ (b = 0 → ∃ v, Ex_ 4 402 [.inr (.inr 6)] N [.inl v] (bf_ N f (M 76 a)))) := by
  have ha := CB_a h.1
  have e := h.1.2.2.1.1
  by_cases k25 : M 75 a = 25
  · by_cases a1 : a < 1200
    · have nk := nk_of k25 (by decide) (by decide)
      refine .inl ⟨-2, -1, _, _, fun Qr Qt g => t_83 fun V hV hW => b_83_0 (Tr_mono _) hV hW _ (Ex_le (d := 1) (by decide) (x_74t ha e k25) _ _ (ri_i ?_)), fun Qr Qt g => t_402 fun V hV hW => b_402_0 (Tr_mono _) hV hW _ (c_228t h.1 (by decide) k25 a1 _ _ (ri_i ?_)), CR_nx h nk.1 nk.2 a1, .inl ⟨rfl, rfl⟩, xsm_nx, qsm_nx⟩
      · rw [if_neg (by decide)]; exact x_73 ha e k25 a1 _ _ (rv_i g)
      · rw [if_neg (by decide)]; exact g
    · have e12 : a = 1200 := by (clear h k25; lia)
      refine .inr ⟨2, by decide, fun Qr Qt g => t_83 fun V hV hW => b_83_0 (Tr_mono _) hV hW _ (Ex_le (d := 1) (by decide) (x_74t ha e k25) _ _ (ri_i ?_)), fun hb => ⟨-1, fun Qr Qt g => t_402 fun V hV hW => b_402_0 (Tr_mono _) hV hW _ (c_228b h.1 hb (by decide) k25 e12 _ _ (ri_i ?_))⟩⟩
      · rw [if_neg (by decide)]; exact x_73b ha e (.inr ⟨k25, e12, rfl⟩) _ _ g
      · rw [if_neg (by decide)]; exact g
  · rcases Bd_or h.1 100 with ⟨k1, a1⟩ | ⟨f, hf⟩
    · have nk := nk_of k1 (by decide) (by decide)
      have h1 := CR_nx h nk.1 nk.2 a1
      have x1 := x_73 ha e k1 a1
      have q1 := c_233 h.1 k1 a1
      have sx : xsm M (up_ M 0 75 (a + 1)) := xsm_nx
      have sq : qsm N (nx_ N) := qsm_nx
      have e150 : (nx_ N) 150 a = (up_ M 0 75 (a + 1)) 76 a := by unfold nx_; rw [up_ne (by decide), ← h.1.2.2.1.2, (CB_k h.1).2.1, h.1.2.2.1.2, up_ne (by decide)]
      have g1 : gdB (up_ M 0 75 (a + 1)) a := gdB_c h.1.2.1 (up_ne (by decide))
      have k11 : (up_ M 0 75 (a + 1)) 75 a = 100 := by rw [up_ne (by decide)]; exact k1
      generalize up_ M 0 75 (a + 1) = M1 at *
      generalize nx_ N = N1 at *
      obtain ⟨v, hv, xv, qv⟩ := j_79 h1 g1 k11
      have px : ∀ (V : vv_) (Qr : qr_) (Qt : qt_), Cl_ wd0 (Tr_ wd0 pg0 2) V Qr Qt m_83 → Wk_ V → (if v = -1 then Tr_ wd0 pg0 2 80 [.inr (.inr 0), .inl 4, .inl a] M1 (rv_ fun M4 => Qr [.inl v] M4) Qt else Qr [.inl v] M1) → V 0 [rr 0, none, none] [] M := fun V Qr Qt hV hW z => b_83_0 (Tr_mono _) hV hW _ (Ex_le (d := 1) (by decide) (x_74f ha e k25) _ _ (ri_i (by
        rw [if_pos rfl, e]
        exact x1 _ _ (rv_i (xv _ _ (ri_i z))))))
      have pq : ∀ (V : vv_) (Qr : qr_) (Qt : qt_), Cl_ wd0 (Tr_ wd0 pg0 3) V Qr Qt m_402 → Wk_ V → (if v < 0 then (0 ≤ a ∧ a < 1202) ∧ Tr_ wd0 pg0 3 236 [.inr (.inr 6), .inl 4, .inl (N1 150 a)] N1 (rv_ fun M5 => Qr [.inl v] M5) Qt else Qr [.inl v] N1) → V 0 [rr 6, none, none] [] N := fun V Qr Qt hV hW z => b_402_0 (Tr_mono _) hV hW _ (c_228f h.1 (by decide) k25 _ _ (ri_i (by
        rw [if_pos rfl]
        refine q1 _ _ (ri_i (Ex_le (d := 1) (by decide) (c_227 h1.1) _ _ (ri_i ?_)))
        rw [if_pos rfl]
        exact ⟨by omega, Ex_le (d := 1) (by decide) qv _ _ (ri_i z)⟩)))
      rcases hv with ev | ev
      · have sm := ntX_s (M := M1) (k := 4) (t := a) (by decide)
        refine .inl ⟨v, v, ntX M1 4 a, nt_ N1 4 (N1 150 a), fun Qr Qt g => t_83 fun V hV hW => px V Qr Qt hV hW ?_, fun Qr Qt g => t_402 fun V hV hW => pq V Qr Qt hV hW ?_, CR_nt h1 (by decide) e150, .inr (.inr ⟨ev, ev, ntX_92 (by decide)⟩), xsm_tr sx sm, qsm_tr sq ntQ_s⟩
        · rw [if_pos ev]; exact x_80n (by omega) _ (by decide) _ _ (rv_i g)
        · rw [if_pos (by omega)]; exact ⟨by omega, Ex_le (d := 1) (by decide) c_236 _ _ (rv_i g)⟩
      · refine .inl ⟨v, v, M1, N1, fun Qr Qt g => t_83 fun V hV hW => px V Qr Qt hV hW ?_, fun Qr Qt g => t_402 fun V hV hW => pq V Qr Qt hV hW ?_, h1, .inr (.inl ⟨rfl, ev.1, ev.2⟩), sx, sq⟩
        · rw [if_neg (by omega)]; exact g
        · rw [if_neg (by omega)]; exact g
    · refine .inr ⟨f, Bd_f hf, fun Qr Qt g => t_83 fun V hV hW => b_83_0 (Tr_mono _) hV hW _ (Ex_le (d := 1) (by decide) (x_74f ha e k25) _ _ (ri_i ?_)), fun hb => ⟨-1, fun Qr Qt g => t_402 fun V hV hW => b_402_0 (Tr_mono _) hV hW _ (c_228f h.1 (by decide) k25 _ _ (ri_i ?_))⟩⟩
      · rw [if_pos rfl]; exact x_73b ha e hf _ _ g
      · rw [if_pos rfl]
        refine c_233b h.1 hb hf _ _ (ri_i (Ex_le (d := 1) (by decide) (s_227 (sp_b (CB_16 h.1 hb) (Bd_f hf))) _ _ (ri_i ?_)))
        rw [if_neg (by decide)]; exact g
/-- a line more -/
theorem CR_ln [Inhabited fz_] (h : CR b M N a) (x0 : ∀ r, r ∉ [0, 46, 47, 48, 49, 50] → M' r = M r) (x1 : ∀ i, i ≠ 76 → M' 0 i = M 0 i) (x2 : M' 0 76 = M 0 76 + 1) (x3 : ∀ r, r ∈ [46, 47, 48, 49, 50] → ∀ i, i ≠ M 0 76 → M' r i = M r i) (y1 : M' 46 (M 0 76) = u ∧ M' 47 (M 0 76) = v ∧ M' 48 (M 0 76) = s ∧ M' 49 (M 0 76) = M 0 94 ∧ M' 50 (M 0 76) = M 0 95)
    (q0 : ∀ r, r ∉ [6, 256, 257, 258, 259, 260, 261] → N' r = N r) (q1 : ∀ i, i ≠ 171 → N' 6 i = N 6 i) (q2 : N' 6 171 = M 0 76 + 1) (q3 : ∀ r, r ∈ [256, 257, 258, 259] → ∀ i, i ≠ M 0 76 → N' r i = N r i) {u' v' : Int} (z1 : N' 256 (M 0 76) = u' ∧ N' 257 (M 0 76) = v' ∧ N' 258 (M 0 76) = s ∧ N' 259 (M 0 76) = M 0 79) (q4 : ∀ i, i < 3 * M 0 76 → N' 260 i = N 260 i ∧ N' 261 i = N 261 i) (q5 : ∀ j, 0 ≤ j → j < M 0 79 → N' 260 (3 * M 0 76 + j) = N 263 j ∧ N' 261 (3 * M 0 76 + j) = N 264 j)
    (h4 : M 0 76 < 40) (hu : SDR M u u') (hv : SDR M v v') : CR b M' N' a := by
  obtain ⟨h1, n1, n2, n3, n4, n5, n6⟩ := h
  obtain ⟨c1, ⟨c2, c3, c4⟩, c5⟩ := n1
  have e77 := x1 77 (by decide)
  have e78 := x1 78 (by decide)
  have e79 := x1 79 (by decide)
  have e92 := x1 92 (by decide)
  have sd : ∀ u v, SDR M u v → SDR M' u v := fun u v h => by unfold SDR at *; rw [e77, e92]; exact h
  have eo : OPN M' N' := by
    unfold OPN levQ rowQ at *
    rw [e78, e79, x1 94 (by decide), x1 95 (by decide), x0 51 (by decide), x0 52 (by decide), x0 53 (by decide), q0 263 (by decide), q0 264 (by decide), q0 266 (by decide)]
    exact n4
  refine ⟨CB_c h1 (fun r hr => x0 r ?_) (fun r hr => q0 r ?_) (x1 75 (by decide)) (q1 12 (by decide)) (q1 16 (by decide)) (fun _ => q1 13 (by decide)), ⟨?_, ⟨?_, ?_⟩, ?_⟩, ?_, ?_, eo, ?_, ?_⟩
  · simp only [List.mem_cons, List.not_mem_nil, or_false] at hr
    rcases hr with rfl | rfl | rfl | rfl | rfl <;> decide
  · simp only [List.mem_cons, List.not_mem_nil, or_false] at hr
    rcases hr with rfl | rfl | rfl <;> decide
  · rw [e77, q1 170 (by decide)]; exact c1
  · rw [q2, x2]
  · rw [x2]; (clear x0 x1 x2 x3 y1 q0 q1 q3 z1 q4 q5 hu hv h1 n2 n3 n4 n5 n6 c1 c5 c4 e77 e78 e79 e92 sd eo; omega)
  · rw [e78, e79, q1 172 (by decide), q1 186 (by decide)]; exact c5
  · unfold INS gdB at *; rw [e77, x0 44 (by decide), x0 45 (by decide), x0 75 (by decide), q0 254 (by decide), q0 255 (by decide), q0 151 (by decide)]; exact n2
  · intro l l0 l1
    rw [x2] at l1
    by_cases e : l = M 0 76
    · subst e
      obtain ⟨⟨o1, o2⟩, o3⟩ := n4
      unfold LIN
      rw [y1.1, y1.2.1, y1.2.2.1, y1.2.2.2.1, y1.2.2.2.2, z1.1, z1.2.1, z1.2.2.1, z1.2.2.2, e78, x0 52 (by decide), x0 53 (by decide)]
      have lv : ∀ j, 0 ≤ j → j ≤ M 0 79 → lvL N' (M 0 76) j = levQ N j ∧ rwL N' (M 0 76) j = rowQ N j := fun j j0 j1 => by
        unfold lvL rwL levQ rowQ
        by_cases z : j = 0
        · rw [if_pos z, if_pos z, if_pos z, if_pos z]; exact ⟨rfl, rfl⟩
        · rw [if_neg z, if_neg z, if_neg z, if_neg z]; exact q5 (j - 1) (by (clear x0 x1 x2 x3 y1 q0 q1 q2 q3 z1 q4 q5 h4 hu hv h1 n2 n3 n5 n6 c1 c5 c2 c3 c4 e77 e78 e79 e92 sd eo l0 l1 o3 o1 o2 j1; lia)) (by (clear x0 x1 x2 x3 y1 q0 q1 q2 q3 z1 q4 q5 h4 hu hv h1 n2 n3 n5 n6 c1 c2 c3 c4 e77 e78 e92 sd eo l0 l1 o3 o1 o2 j0 z; omega))
      refine ⟨sd _ _ hu, sd _ _ hv, rfl, by (clear x0 x1 x2 x3 y1 q0 q1 q2 q3 z1 q4 q5 h4 hu hv h1 n2 n3 n5 n6 c1 c2 c3 c4 e77 e78 e92 sd eo l0 l1 o3 o1 o2 lv; lia), ?_, ?_, fun j j0 j1 => ?_⟩
      · rw [(lv _ (by (clear x0 x1 x2 x3 y1 q0 q1 q2 q3 z1 q4 q5 h4 hu hv h1 n2 n3 n5 n6 c1 c2 c3 c4 e77 e78 e92 sd eo l0 l1 o3 o1 o2 lv; lia)) (by (clear x0 x1 x2 x3 y1 q0 q1 q2 q3 z1 q4 q5 h4 hu hv h1 n2 n3 n5 n6 c1 c5 c2 c3 c4 e77 e78 e79 e92 sd eo l0 l1 o3 o1 o2 lv; lia))).1]; exact o1
      · rw [(lv _ (by omega) (by omega)).2]; exact o2
      · rw [(q5 j j0 j1).1, (lv j j0 (by (clear x0 x1 x2 x3 y1 q0 q1 q2 q3 z1 q4 q5 h4 hu hv h1 n2 n3 n5 n6 c1 c2 c3 c4 e77 e78 e92 sd eo l0 l1 o3 o1 o2 lv j0; omega))).1, (lv j j0 (by omega)).2]
        have := o3 j j0 j1
        exact ⟨this.1, this.2.1, this.2.2.1⟩
    · have hl := n3 l l0 (by (clear x0 x1 x2 x3 y1 q0 q1 q3 z1 q4 q5 h4 hu hv h1 n2 n3 n4 n5 n6 c1 c5 c3 c4 e77 e78 e79 e92 sd eo l0; omega))
      have hl' := hl
      unfold LIN at hl ⊢
      rw [x3 46 (by decide) l e, x3 47 (by decide) l e, x3 48 (by decide) l e, x3 49 (by decide) l e, x3 50 (by decide) l e, q3 256 (by decide) l e, q3 257 (by decide) l e, q3 258 (by decide) l e, q3 259 (by decide) l e, e78, x0 52 (by decide), x0 53 (by decide)]
      have d3 := hl.2.2.2.1
      have lv : ∀ j, 0 ≤ j → j ≤ N 259 l → lvL N' l j = lvL N l j ∧ rwL N' l j = rwL N l j := fun j j0 j1 => by
        unfold lvL rwL
        by_cases z : j = 0
        · rw [if_pos z, if_pos z, if_pos z, if_pos z]; exact ⟨rfl, rfl⟩
        · rw [if_neg z, if_neg z, if_neg z, if_neg z]; exact q4 _ (by (clear x0 x1 x2 x3 y1 q0 q1 q3 z1 q4 q5 h4 hu hv h1 n2 n3 n4 n5 n6 c1 c5 c3 c4 e77 e78 e79 e92 sd eo l0 hl' d3; omega))
      refine ⟨sd _ _ hl.1, sd _ _ hl.2.1, hl.2.2.1, hl.2.2.2.1, ?_, ?_, fun j j0 j1 => ?_⟩
      · rw [(lv _ (by omega) (by omega)).1]; exact hl.2.2.2.2.1
      · rw [(lv _ (by omega) (by omega)).2]; exact hl.2.2.2.2.2.1
      · rw [(q4 (3 * l + j) (by (clear x0 x1 x2 x3 y1 q0 q1 q3 z1 q4 q5 h4 hu hv h1 n2 n3 n4 n5 n6 c1 c5 c3 c4 e77 e78 e79 e92 sd eo l0 hl' d3 lv j0; omega))).1, (lv j j0 (by (clear x0 x1 x2 x3 y1 q0 q1 q2 q3 z1 q4 q5 h4 hu hv h1 n2 n3 n4 n5 n6 c1 c5 c2 c3 c4 e77 e78 e79 e92 sd eo l0 l1 e hl hl' d3 lv j0; omega))).1, (lv j j0 (by omega)).2]
        exact hl.2.2.2.2.2.2 j j0 j1
  · unfold ALT at *; rw [e78, x0 51 (by decide), q0 262 (by decide), q0 266 (by decide)]; exact n5
  · unfold NTE at *; rw [e92, x1 93 (by decide), q1 13 (by decide), q1 14 (by decide)]; exact n6
end LNa
end T426_ln
section T427_ln
/-! charts: a line whole (X 82 | Q 401) -/
section LNb
variable {b : Int} {M N M' N' M1 N1 M2 N2 : mm_} {a k f t x c w p i u v s l : Int}
/-- the rows that a line stands in are kept -/
theorem q_154 [Inhabited fz_] {x1 x2 x3 x4 x5 : Int} (hl : N 6 171 = l) (h0 : 0 ≤ l ∧ l < 40) (hw : N 6 186 = w) (w3 : w ≤ 3) : ∀ (n : Nat) (j : Int) (N1 : mm_), w - j = n → 0 ≤ j → (∀ r, r ∉ [260, 261] → N1 r = N r) → (∀ i, i < 3 * l → N1 260 i = N 260 i ∧ N1 261 i = N 261 i) → (∀ i, 0 ≤ i → i < j → N1 260 (3 * l + i) = N 263 i ∧ N1 261 (3 * l + i) = N 264 i) → ∃ N', (∀ (V : vv_) (Qr : qr_) (Qt : qt_), Cl_ wd0 (Tr_ wd0 pg0 4) V Qr Qt m_401 → Wk_ V → Qr [] (up_ N' 6 171 (l + 1)) → V 154 [rr 6, ii x1, ii x2, ii x3, ii x4, ii x5, ii j] [] N1) ∧ (∀ r, r ∉ [260, 261] → N' r = N r) ∧ (∀ i, i < 3 * l → N' 260 i = N 260 i ∧ N' 261 i = N 261 i) ∧ (∀ i, 0 ≤ i → i < w → N' 260 (3 * l + i) = N 263 i ∧ N' 261 (3 * l + i) = N 264 i) := by
  intro n
  have w1 : w32 (l + 1) = l + 1 := w32_id (by omega) (by omega)
  have w3l : w32 (3 * l) = 3 * l := w32_id (by (clear hl hw w3; lia)) (by (clear hl hw w3; lia))
  induction n with
  | zero =>
    intro j N1 hj j0 f1 f2 f3
    refine ⟨N1, fun V Qr Qt hV hW g => b_401_154 (Tr_mono _) hV hW _ _ _ _ _ _ _ ?_, f1, f2, fun i i0 i1 => f3 i i0 (by omega)⟩
    rw [if_neg (by rw [f1 6 (by decide), hw]; (clear hl h0 hw w3 w1 w3l j0 f1 f2 f3 hV hW g; omega)), f1 6 (by decide), hl, w1]
    exact g
  | succ n ih =>
    intro j N1 hj j0 f1 f2 f3
    have wj : w32 (j + 1) = j + 1 := w32_id (by (clear hl h0 hw w3 w1 w3l ih hj f1 f2 f3; lia)) (by (clear hl h0 hw w1 w3l ih j0 f1 f2 f3; omega))
    have wl : w32 (3 * l + j) = 3 * l + j := w32_id (by (clear hl hw w3l ih f1 f2 f3; lia)) (by (clear hl hw w3l ih f1 f2 f3; omega))
    have F2 : ∀ i, i < 3 * l → (up_ (up_ N1 260 (3 * l + j) (N1 263 j)) 261 (3 * l + j) (N1 264 j)) 260 i = N 260 i ∧ (up_ (up_ N1 260 (3 * l + j) (N1 263 j)) 261 (3 * l + j) (N1 264 j)) 261 i = N 261 i := fun i hi => by
      rw [up_ne (by decide), upo (by (clear hl h0 hw w3 w3l ih hj f1 f2 f3; lia)), upo (by omega), up_ne (by decide)]; exact f2 i hi
    have F3 : ∀ i, 0 ≤ i → i < j + 1 → (up_ (up_ N1 260 (3 * l + j) (N1 263 j)) 261 (3 * l + j) (N1 264 j)) 260 (3 * l + i) = N 263 i ∧ (up_ (up_ N1 260 (3 * l + j) (N1 263 j)) 261 (3 * l + j) (N1 264 j)) 261 (3 * l + i) = N 264 i := fun i i0 i1 => by
      rw [up_ne (r' := 260) (by decide)]
      by_cases e : i = j
      · subst e; rw [up_at, up_at, f1 263 (by decide), f1 264 (by decide)]; exact ⟨rfl, rfl⟩
      · rw [upo (by (clear hl h0 hw w3 w3l ih hj j0 f1 f2 f3 F2 i0 i1; lia)), upo (by omega), up_ne (by decide)]; exact f3 i i0 (by (clear hl h0 hw w3 w3l ih hj j0 f1 f2 f3 F2 i0; lia))
    obtain ⟨N', g1, g2, g3, g4⟩ := ih (j + 1) (up_ (up_ N1 260 (3 * l + j) (N1 263 j)) 261 (3 * l + j) (N1 264 j)) (by omega) (by (clear hl h0 hw w3 w3l ih hj f1 f2 f3 F2 F3; lia)) (fun r hr => by rw [up_ne (by rintro rfl; exact hr (by decide)), up_ne (by rintro rfl; exact hr (by decide))]; exact f1 r hr) F2 F3
    refine ⟨N', fun V Qr Qt hV hW g => b_401_154 (Tr_mono _) hV hW _ _ _ _ _ _ _ ?_, g2, g3, g4⟩
    rw [if_pos (by rw [f1 6 (by decide), hw]; omega), f1 6 (by decide), hl, w3l, wl, wj]
    exact ⟨by (clear hl h0 hw w3l ih f1 f2 f3 F2 F3 g1 g2 g3 g4 hV hW g; lia), by (clear hl hw w3l ih f1 f2 f3 F2 F3 g1 g2 g3 g4 hV hW g; lia), by omega, by omega, g1 V Qr Qt hV hW g⟩
/-- a line from its last sign on -/
theorem jv_ln [Inhabited fz_] (h : CR b M N a) (h4 : M 0 76 < 40) {u' v' x3 y1 y4 : Int} (hu : SDR M u u') (hv : SDR M v v') : JV 4 m_82 71 [rr 0, ii u, ii v, ii x3, ii s] 4 m_401 93 [rr 6, ii y1, ii u', ii v', ii y4, ii s, none] b M N (fun M' N' => CR b M' N' (a + 1)) := by
  have ha := CB_a h.1
  rcases Bd_or h.1 259 with ⟨k1, a1⟩ | ⟨f, hf⟩
  · have nk := nk_of k1 (by decide) (by decide)
    have h1 := CR_nx h nk.1 nk.2 a1
    have x1 := x_76 (c := 59) ha h.1.2.2.1.1 (by decide) k1 a1
    have q1 := c_244 h.1 (x := 59) (by decide) k1 a1
    have sx : xsm M (up_ M 0 75 (a + 1)) := xsm_nx
    have sq : qsm N (nx_ N) := qsm_nx
    generalize up_ M 0 75 (a + 1) = M1 at *
    generalize nx_ N = N1 at *
    have fx := xsm_XT sx
    have fq := qsm_QT sq
    have hu1 := SDR_sm hu sx
    have hv1 := SDR_sm hv sx
    obtain ⟨_, ⟨c1, c2, c3⟩, _, ⟨c4, c5, c6⟩⟩ := h1.2.1
    have e76 : M1 0 76 = M 0 76 := sx.2.1 76 (by decide)
    have l40 : 0 ≤ M1 0 76 ∧ M1 0 76 < 40 := by (clear h hu hv ha k1 a1 nk x1 sx q1 sq h1 fx fq hu1 hv1 c1 c4 c5 c6; omega)
    have c1' : N1 6 171 = M1 0 76 := c1
    have c4' : N1 6 186 = M1 0 79 := c4
    have f256 : ∀ r, r ∉ [256, 257, 258, 259] → (up_ (up_ (up_ (up_ N1 256 (N1 6 171) u') 257 (N1 6 171) v') 258 (N1 6 171) s) 259 (N1 6 171) (N1 6 186)) r = N1 r := fun r hr => by rw [up_ne (by rintro rfl; exact hr (by decide)), up_ne (by rintro rfl; exact hr (by decide)), up_ne (by rintro rfl; exact hr (by decide)), up_ne (by rintro rfl; exact hr (by decide))]
    obtain ⟨N', g1, g2, g3, g4⟩ := q_154 (N := up_ (up_ (up_ (up_ N1 256 (N1 6 171) u') 257 (N1 6 171) v') 258 (N1 6 171) s) 259 (N1 6 171) (N1 6 186)) (l := M1 0 76) (w := M1 0 79) (x1 := y1) (x2 := u') (x3 := v') (x4 := y4) (x5 := s) (by rw [f256 6 (by decide)]; exact c1) (by omega) (by rw [f256 6 (by decide)]; exact c4) c6 (M1 0 79).toNat 0 _ (by (clear h h4 hu hv ha k1 a1 nk x1 sx q1 sq h1 fx fq hu1 hv1 c1 c2 c3 c4 e76 l40 c1' c4' f256; lia)) (by omega) (fun _ _ => rfl) (fun _ _ => ⟨rfl, rfl⟩) (fun i i0 i1 => by omega)
    have w1 : w32 (M1 0 76 + 1) = M1 0 76 + 1 := w32_id (by omega) (by omega)
    refine .inl ⟨up_ (up_ (up_ (up_ (up_ (up_ M1 46 (M1 0 76) u) 47 (M1 0 76) v) 48 (M1 0 76) s) 49 (M1 0 76) (M1 0 94)) 50 (M1 0 76) (M1 0 95)) 0 76 (M1 0 76 + 1), up_ N' 6 171 (M1 0 76 + 1), fun V Qr Qt hV hW g => b_82_71 (Tr_mono _) hV hW _ _ _ _ _ (Ex_le (d := 3) (by decide) x1 _ _ (rv_i ?_)), fun V Qr Qt hV hW g => b_401_93 (Tr_mono _) hV hW _ _ _ _ _ _ (Ex_le (d := 3) (by decide) q1 _ _ (rv_i (Ex_le (d := 1) (by decide) (c_227 h1.1) _ _ (ri_i ?_)))), ?_, ?_, ?_⟩
    · rw [w1]; exact ⟨l40, l40, l40, l40, l40, g⟩
    · rw [if_pos rfl]
      have l41 : 0 ≤ N1 6 171 ∧ N1 6 171 < 40 := by rw [c1]; exact l40
      exact ⟨l41, l41, l41, l41, g1 V Qr Qt hV hW g⟩
    · have n6 : ∀ r, r ∉ [6, 260, 261] → (up_ N' 6 171 (M1 0 76 + 1)) r = (up_ (up_ (up_ (up_ N1 256 (N1 6 171) u') 257 (N1 6 171) v') 258 (N1 6 171) s) 259 (N1 6 171) (N1 6 186)) r := fun r hr => by
        simp only [List.mem_cons, List.not_mem_nil, or_false, not_or] at hr
        rw [up_ne hr.1]
        exact g2 r (by simp only [List.mem_cons, List.not_mem_nil, or_false, not_or]; exact hr.2)
      refine CR_ln (u := u) (v := v) (s := s) (u' := u') (v' := v') h1 (fun r hr => ?_) (fun i hi => ?_) ?_ (fun r hr i hi => ?_) ⟨?_, ?_, ?_, ?_, ?_⟩ (fun r hr => ?_) (fun i hi => ?_) ?_ (fun r hr i hi => ?_) ⟨?_, ?_, ?_, ?_⟩ (fun i hi => ?_) (fun j j0 j1 => ?_) l40.2 hu1 hv1
      · rw [up_ne (by rintro rfl; exact hr (by decide)), up_ne (by rintro rfl; exact hr (by decide)), up_ne (by rintro rfl; exact hr (by decide)), up_ne (by rintro rfl; exact hr (by decide)), up_ne (by rintro rfl; exact hr (by decide)), up_ne (by rintro rfl; exact hr (by decide))]
      · rw [upo hi, up_ne (by decide), up_ne (by decide), up_ne (by decide), up_ne (by decide), up_ne (by decide)]
      · rw [up_at]
      · simp only [List.mem_cons, List.not_mem_nil, or_false] at hr
        have off : ∀ {R : mm_} {r r' : Nat} {x : Int}, up_ R r' (M1 0 76) x r i = R r i := fun {R r r' x} => by
          rw [ua_]; split
          · rename_i e; first | rw [if_neg hi, e] | rw [e]
          · rfl
        rw [up_ne (by rcases hr with rfl | rfl | rfl | rfl | rfl <;> decide), off, off, off, off, off]
      · rw [up_ne (by decide), up_ne (by decide), up_ne (by decide), up_ne (by decide), up_ne (by decide), up_at]
      · rw [up_ne (by decide), up_ne (by decide), up_ne (by decide), up_ne (by decide), up_at]
      · rw [up_ne (by decide), up_ne (by decide), up_ne (by decide), up_at]
      · rw [up_ne (by decide), up_ne (by decide), up_at]
      · rw [up_ne (by decide), up_at]
      · simp only [List.mem_cons, List.not_mem_nil, or_false, not_or] at hr
        rw [n6 r (by simp only [List.mem_cons, List.not_mem_nil, or_false, not_or]; exact ⟨hr.1, hr.2.2.2.2.2⟩)]
        exact f256 r (by simp only [List.mem_cons, List.not_mem_nil, or_false, not_or]; exact ⟨hr.2.1, hr.2.2.1, hr.2.2.2.1, hr.2.2.2.2.1⟩)
      · rw [upo hi, g2 6 (by decide), f256 6 (by decide)]
      · rw [up_at]
      · simp only [List.mem_cons, List.not_mem_nil, or_false] at hr
        rw [n6 r (by rcases hr with rfl | rfl | rfl | rfl <;> decide), c1]
        have off : ∀ {R : mm_} {r r' : Nat} {x : Int}, up_ R r' (M1 0 76) x r i = R r i := fun {R r r' x} => by
          rw [ua_]; split
          · rename_i e; first | rw [if_neg hi, e] | rw [e]
          · rfl
        rw [off, off, off, off]
      · rw [n6 256 (by decide), c1, up_ne (by decide), up_ne (by decide), up_ne (by decide), up_at]
      · rw [n6 257 (by decide), c1, up_ne (by decide), up_ne (by decide), up_at]
      · rw [n6 258 (by decide), c1, up_ne (by decide), up_at]
      · rw [n6 259 (by decide), c1, up_at, c4]
      · rw [up_ne (by decide), up_ne (by decide)]
        have := g3 i hi
        rw [f256 260 (by decide), f256 261 (by decide)] at this
        exact this
      · rw [up_ne (by decide), up_ne (by decide)]
        have := g4 j j0 j1
        rw [f256 263 (by decide), f256 264 (by decide)] at this
        exact this
    · exact XT_0 (XT_r (XT_r (XT_r (XT_r (XT_r fx (by decide) (by decide)) (by decide) (by decide)) (by decide) (by decide)) (by decide) (by decide)) (by decide) (by decide)) (by decide)
    · refine QT_6 ⟨fun r hr => ?_, fun i hi => ?_⟩ (by decide)
      · rw [g2 r (fun z => hr (by simp only [List.mem_cons, List.not_mem_nil, or_false] at z; rcases z with rfl | rfl <;> decide)), f256 r (fun z => hr (by simp only [List.mem_cons, List.not_mem_nil, or_false] at z; rcases z with rfl | rfl | rfl | rfl <;> decide))]
        exact fq.1 r hr
      · rw [g2 6 (by decide), f256 6 (by decide)]; exact fq.2 i hi
  · refine .inr ⟨bdX M f (M 76 a), fun V Qr Qt hV hW g => b_82_71 (Tr_mono _) hV hW _ _ _ _ _ ?_, XT_bd XT_rf, fun hb => ?_⟩
    · exact Th_le (d := 3) (by decide) (x_76b (c := 59) ha h.1.2.2.1.1 (by decide) hf) _ _ g
    · have sp := sp_b (p := M 76 a) (CB_16 h.1 hb) (Bd_f hf)
      refine ⟨bf_ N f (M 76 a), fun V Qr Qt hV hW g => b_401_93 (Tr_mono _) hV hW _ _ _ _ _ _ ?_, FQc_b (CB_16 h.1 hb) (Bd_f hf), QT_bf QT_rf⟩
      refine Ex_le (d := 3) (by decide) (c_244b h.1 hb (x := 59) (by decide) hf) _ _ (rv_i (Ex_le (d := 1) (by decide) (s_227 sp) _ _ (ri_i ?_)))
      rw [if_neg (by decide)]; exact g
end LNb
end T427_ln
section T428_ln
/-! charts: a line (X 82 | Q 401), all of it -/
section LNc
variable {b : Int} {M N M' N' M1 N1 M2 N2 : mm_} {a k f t x c w p i u v s l : Int}
/-- Q's line once it has stopped, by where -/
theorem s_401a [Inhabited fz_] (h : sp_ N) {V : vv_} {Qr : qr_} {Qt : qt_} {y : Int} (g : Qr [] N) (C : Int → Int → mm_ → Prop) : Tr_ wd0 pg0 4 233 [.inr (.inr 6)] N (ri_ fun v3 M5 => Tr_ wd0 pg0 4 227 [.inr (.inr 6)] M5 (ri_ fun v4 M6 => if v4 = 0 then C v3 v4 M6 else Qr [] M6) Qt) Qt := Ex_le (d := 3) (by decide) (s_233 h) _ _ (ri_i (Ex_le (d := 1) (by decide) (s_227 h) _ _ (ri_i (by rw [if_neg (by decide)]; exact g))))
theorem j_82 [Inhabited fz_] (h : CR b M N a) (hS : SGP M N) (hk : M 75 a = 100 ∨ M 75 a = 25) : JO 5 82 [.inr (.inr 0)] b M N (fun M' N' => ∃ a', a < a' ∧ CR b M' N' a') := by
  have ha := CB_a h.1
  have e := h.1.2.2.1.1
  have toQ : ∀ {N'}, Ex_ 5 401 [.inr (.inr 6)] N [] N' → QL N N' := fun g V Qr Qt hV hW z => q_ln h.1 hk hV hW (g _ _ (rv_i z))
  have c171 := h.2.1.2.1.1
  have i9 := (CB_k h.1).2.2
  by_cases c40 : M 0 76 = 40
  · refine .inr ⟨bdX M 2 (M 76 a), fun Qr Qt g => t_82 fun V hV hW => b_82_0 (Tr_mono _) hV hW _ ?_, XT_bd XT_rf, fun hb => ?_⟩
    · rw [if_pos c40, e]
      refine Ex_le (d := 1) (by decide) (x_75c ha) _ _ (rf_i ?_)
      rw [if_neg (by decide)]; exact g
    · have sp := sp_b (p := M 76 a) (f := 2) (CB_16 h.1 hb) (by decide)
      refine ⟨_, QL_E (toQ (N' := bf_ N 2 (M 76 a)) fun Qr Qt g => t_401 fun V hV hW => b_401_0 (Tr_mono _) hV hW _ ⟨i9, ?_⟩) (QEc_s sp), FQc_b (CB_16 h.1 hb) (by decide), QT_bf QT_rf⟩
      rw [if_pos (by (clear h hS hk ha e toQ i9 hb sp g hV hW; lia)), (CB_k h.1).2.1]
      exact Ex_le (d := 1) (by decide) (c_231 h.1 hb) _ _ (rv_i g)
  have l40 : M 0 76 < 40 := by have := h.2.1.2.1; omega
  have nq : ¬ (N 6 171 = 40) := by (clear h hS hk ha e toQ i9 c40; lia)
  -- the left side
  rcases j_83 h with ⟨u, u', M1, N1, xa, qa, h1, sd1, sx1, sq1⟩ | ⟨f, f0, xa, qa⟩
  · have fx1 := xsm_XT sx1
    have fq1 := qsm_QT sq1
    have ha1 := CB_a h1.1
    have e1 := h1.1.2.2.1.1
    -- the arrow
    rcases Bd_or h1.1 114 with ⟨k2, a2⟩ | ⟨f, hf⟩
    · have nk2 := nk_of k2 (by decide) (by decide)
      have h2 := CR_nx h1 nk2.1 nk2.2 a2
      have x2 := x_73 ha1 e1 k2 a2
      have q2 := c_244 h1.1 (x := 260) (by decide) k2 a2
      have sx2 : xsm M1 (up_ M1 0 75 (a + 1 + 1)) := xsm_nx
      have sq2 : qsm N1 (nx_ N1) := qsm_nx
      generalize up_ M1 0 75 (a + 1 + 1) = M2 at *
      generalize nx_ N1 = N2 at *
      have fx2 := XT_tr fx1 (xsm_XT sx2)
      have fq2 := QT_tr fq1 (qsm_QT sq2)
      have sd2 := SDR_sm sd1 sx2
      -- the right side
      rcases j_83 h2 with ⟨v, v', M3, N3, xb, qb, h3, sd3, sx3, sq3⟩ | ⟨f, f0, xb, qb⟩
      · have fx3 := XT_tr fx2 (xsm_XT sx3)
        have fq3 := QT_tr fq2 (qsm_QT sq3)
        have sd2' := SDR_sm sd2 sx3
        have ha3 := CB_a h3.1
        have e3 := h3.1.2.2.1.1
        rcases Bd_or h3.1 258 with ⟨k4, a4⟩ | ⟨f, hf⟩
        · have nk4 := nk_of k4 (by decide) (by decide)
          have h4 := CR_nx h3 nk4.1 nk4.2 a4
          have x4 := x_76 (c := 58) ha3 e3 (by decide) k4 a4
          have q4 := c_244 h3.1 (x := 58) (by decide) k4 a4
          have sx4 : xsm M3 (up_ M3 0 75 (a + 1 + 1 + 1 + 1)) := xsm_nx
          have sq4 : qsm N3 (nx_ N3) := qsm_nx
          generalize up_ M3 0 75 (a + 1 + 1 + 1 + 1) = M4 at *
          generalize nx_ N3 = N4 at *
          have fx4 := XT_tr fx3 (xsm_XT sx4)
          have fq4 := QT_tr fq3 (qsm_QT sq4)
          have sd4a := SDR_sm sd2' sx4
          have sd4b := SDR_sm sd3 sx4
          have ha4 := CB_a h4.1
          have e4 := h4.1.2.2.1.1
          rcases Bd_or h4.1 100 with ⟨k5, a5⟩ | ⟨f, hf⟩
          · have nk5 := nk_of k5 (by decide) (by decide)
            have h5 := CR_nx h4 nk5.1 nk5.2 a5
            have x5 := x_73 ha4 e4 k5 a5
            have q5 := c_233 h4.1 k5 a5
            have sx5 : xsm M4 (up_ M4 0 75 (a + 1 + 1 + 1 + 1 + 1)) := xsm_nx
            have sq5 : qsm N4 (nx_ N4) := qsm_nx
            have g5 : gdB (up_ M4 0 75 (a + 1 + 1 + 1 + 1 + 1)) (a + 1 + 1 + 1 + 1) := gdB_c h4.1.2.1 (up_ne (by decide))
            have k55 : (up_ M4 0 75 (a + 1 + 1 + 1 + 1 + 1)) 75 (a + 1 + 1 + 1 + 1) = 100 := by rw [up_ne (by decide)]; exact k5
            have e150 : (nx_ N4) 150 (a + 1 + 1 + 1 + 1) = (up_ M4 0 75 (a + 1 + 1 + 1 + 1 + 1)) 76 (a + 1 + 1 + 1 + 1) := by unfold nx_; rw [up_ne (by decide), ← h4.1.2.2.1.2, (CB_k h4.1).2.1, h4.1.2.2.1.2, up_ne (by decide)]
            generalize up_ M4 0 75 (a + 1 + 1 + 1 + 1 + 1) = M5 at *
            generalize nx_ N4 = N5 at *
            have fx5 := XT_tr fx4 (xsm_XT sx5)
            have fq5 := QT_tr fq4 (qsm_QT sq5)
            have sd5a := SDR_sm sd4a sx5
            have sd5b := SDR_sm sd4b sx5
            have S5 := SGP_c hS fx5 fq5
            obtain ⟨s, s0, xs, qs⟩ := j_84 S5 h5.1.1 g5 k55
            have l5 : M5 0 76 = M 0 76 := by rw [sx5.2.1 76 (by decide), sx4.2.1 76 (by decide), sx3.2.1 76 (by decide), sx2.2.1 76 (by decide), sx1.2.1 76 (by decide)]
            have px : ∀ (V : vv_) (Qr : qr_) (Qt : qt_), Cl_ wd0 (Tr_ wd0 pg0 4) V Qr Qt m_82 → Wk_ V → (if s = -1 then Tr_ wd0 pg0 4 80 [.inr (.inr 0), .inl 4, .inl (a + 1 + 1 + 1 + 1)] M5 (rv_ fun M7 => V 71 [rr 0, ii u, ii v, ii (a + 1 + 1 + 1 + 1), ii s] [] M7) Qt else V 71 [rr 0, ii u, ii v, ii (a + 1 + 1 + 1 + 1), ii s] [] M5) → V 0 [rr 0, none, none, none, none] [] M := fun V Qr Qt hV hW z => b_82_0 (Tr_mono _) hV hW _ (by
              rw [if_neg c40]
              refine Ex_le (d := 3) (by decide) xa _ _ (ri_i (Ex_le (d := 2) (by decide) x2 _ _ (rv_i (Ex_le (d := 3) (by decide) xb _ _ (ri_i (Ex_le (d := 3) (by decide) x4 _ _ (rv_i (Ex_le (d := 2) (by decide) x5 _ _ (rv_i ?_)))))))))
              rw [e4]
              exact Ex_le (d := 1) (by decide) xs _ _ (ri_i z))
            have pq : ∀ (V : vv_) (Qr : qr_) (Qt : qt_), Cl_ wd0 (Tr_ wd0 pg0 4) V Qr Qt m_401 → Wk_ V → (if s < 0 then (0 ≤ a + 1 + 1 + 1 + 1 ∧ a + 1 + 1 + 1 + 1 < 1202) ∧ Tr_ wd0 pg0 4 236 [.inr (.inr 6), .inl 4, .inl (N5 150 (a + 1 + 1 + 1 + 1))] N5 (rv_ fun M8 => V 93 [rr 6, ii (N 150 (N 6 12)), ii u', ii v', ii (a + 1 + 1 + 1 + 1), ii s, none] [] M8) Qt else V 93 [rr 6, ii (N 150 (N 6 12)), ii u', ii v', ii (a + 1 + 1 + 1 + 1), ii s, none] [] N5) → V 0 [rr 6, none, none, none, none, none, none] [] N := fun V Qr Qt hV hW z => b_401_0 (Tr_mono _) hV hW _ ⟨i9, by
              rw [if_neg nq]
              refine qa _ _ (ri_i (Ex_le (d := 3) (by decide) q2 _ _ (rv_i (qb _ _ (ri_i (Ex_le (d := 3) (by decide) q4 _ _ (rv_i (Ex_le (d := 3) (by decide) q5 _ _ (ri_i (Ex_le (d := 1) (by decide) (c_227 h5.1) _ _ (ri_i ?_)))))))))))
              rw [if_pos rfl]
              exact ⟨by (clear h hS hk toQ c171 i9 c40 l40 nq xa qa h1 sd1 sx1 sq1 fx1 fq1 k2 nk2 x2 sx2 q2 sq2 h2 fx2 fq2 sd2 xb qb h3 sd3 sx3 sq3 fx3 fq3 sd2' k4 nk4 x4 sx4 q4 sq4 h4 fx4 fq4 sd4a sd4b ha4 k5 nk5 x5 sx5 g5 k55 q5 sq5 h5 e150 fx5 fq5 sd5a sd5b S5 s0 xs qs l5 px hV hW z; lia), Ex_le (d := 1) (by decide) qs _ _ (ri_i z)⟩⟩
            have st : ∃ M6 N6, CR b M6 N6 (a + 1 + 1 + 1 + 1 + 1) ∧ (SDR M6 u u' ∧ SDR M6 v v' ∧ M6 0 76 = M 0 76) ∧ (XTc M M6 ∧ QT9 N N6) ∧ (∀ (V : vv_) (Qr : qr_) (Qt : qt_), Cl_ wd0 (Tr_ wd0 pg0 4) V Qr Qt m_82 → Wk_ V → V 71 [rr 0, ii u, ii v, ii (a + 1 + 1 + 1 + 1), ii s] [] M6 → V 0 [rr 0, none, none, none, none] [] M) ∧ (∀ (V : vv_) (Qr : qr_) (Qt : qt_), Cl_ wd0 (Tr_ wd0 pg0 4) V Qr Qt m_401 → Wk_ V → V 93 [rr 6, ii (N 150 (N 6 12)), ii u', ii v', ii (a + 1 + 1 + 1 + 1), ii s, none] [] N6 → V 0 [rr 6, none, none, none, none, none, none] [] N) := by
              by_cases es : s = -1
              · have sm := ntX_s (M := M5) (k := 4) (t := a + 1 + 1 + 1 + 1) (by decide)
                refine ⟨ntX M5 4 (a + 1 + 1 + 1 + 1), nt_ N5 4 (N5 150 (a + 1 + 1 + 1 + 1)), CR_nt h5 (by decide) e150, ⟨SDR_sm sd5a sm, SDR_sm sd5b sm, by rw [sm.2.1 76 (by decide)]; exact l5⟩, ⟨XT_nt fx5, QT_nt fq5⟩, fun V Qr Qt hV hW z => px V Qr Qt hV hW ?_, fun V Qr Qt hV hW z => pq V Qr Qt hV hW ?_⟩
                · rw [if_pos es]; exact x_80n (by omega) _ (by decide) _ _ (rv_i z)
                · rw [if_pos (by (clear h hS hk ha e toQ c171 i9 c40 l40 nq xa qa h1 sd1 sx1 sq1 fx1 fq1 ha1 e1 k2 a2 nk2 x2 sx2 q2 sq2 h2 fx2 fq2 sd2 xb qb h3 sd3 sx3 sq3 fx3 fq3 sd2' ha3 e3 k4 a4 nk4 x4 sx4 q4 sq4 h4 fx4 fq4 sd4a sd4b ha4 e4 k5 a5 nk5 x5 sx5 g5 k55 q5 sq5 h5 e150 fx5 fq5 sd5a sd5b S5 s0 xs qs l5 px pq sm hV hW z; lia))]; exact ⟨by (clear h hS hk toQ c171 i9 c40 l40 nq xa qa h1 sd1 sx1 sq1 fx1 fq1 k2 nk2 x2 sx2 q2 sq2 h2 fx2 fq2 sd2 xb qb h3 sd3 sx3 sq3 fx3 fq3 sd2' k4 nk4 x4 sx4 q4 sq4 h4 fx4 fq4 sd4a sd4b ha4 k5 nk5 x5 sx5 g5 k55 q5 sq5 h5 e150 fx5 fq5 sd5a sd5b S5 s0 xs qs l5 px pq es sm hV hW z; lia), Ex_le (d := 1) (by decide) c_236 _ _ (rv_i z)⟩
              · refine ⟨M5, N5, h5, ⟨sd5a, sd5b, l5⟩, ⟨fx5, fq5⟩, fun V Qr Qt hV hW z => px V Qr Qt hV hW ?_, fun V Qr Qt hV hW z => pq V Qr Qt hV hW ?_⟩
                · rw [if_neg es]; exact z
                · rw [if_neg (by (clear h hS hk ha e toQ c171 i9 c40 l40 nq xa qa h1 sd1 sx1 sq1 fx1 fq1 ha1 e1 k2 a2 nk2 x2 sx2 q2 sq2 h2 fx2 fq2 sd2 xb qb h3 sd3 sx3 sq3 fx3 fq3 sd2' ha3 e3 k4 a4 nk4 x4 sx4 q4 sq4 h4 fx4 fq4 sd4a sd4b ha4 e4 k5 a5 nk5 x5 sx5 g5 k55 q5 sq5 h5 e150 fx5 fq5 sd5a sd5b S5 xs qs l5 px pq hV hW z; lia))]; exact z
            obtain ⟨M6, N6, h6, ⟨d1, d2, d3⟩, ⟨fx6, fq6⟩, px, pq⟩ := st
            rcases jv_ln (x3 := a + 1 + 1 + 1 + 1) (y1 := N 150 (N 6 12)) (y4 := a + 1 + 1 + 1 + 1) (s := s) h6 (by (clear h hS hk ha e toQ c171 i9 c40 nq xa qa h1 sd1 sx1 sq1 fx1 fq1 ha1 e1 k2 a2 nk2 x2 sx2 q2 sq2 h2 fx2 fq2 sd2 xb qb h3 sd3 sx3 sq3 fx3 fq3 sd2' ha3 e3 k4 a4 nk4 x4 sx4 q4 sq4 h4 fx4 fq4 sd4a sd4b ha4 e4 k5 a5 nk5 x5 sx5 g5 k55 q5 sq5 h5 e150 fx5 fq5 sd5a sd5b S5 s0 xs qs h6 d1 d2 fx6 fq6 px pq; omega)) d1 d2 with ⟨M', N', gx, gq, hR, rx, rq⟩ | ⟨M', gx, rx, gb⟩
            · exact .inl ⟨M', N', fun Qr Qt g => t_82 fun V hV hW => px V Qr Qt hV hW (gx V Qr Qt hV hW g), toQ fun Qr Qt g => t_401 fun V hV hW => pq V Qr Qt hV hW (gq V Qr Qt hV hW g), ⟨_, by (clear h hS hk ha e toQ c171 i9 c40 l40 nq xa qa h1 sd1 sx1 sq1 fx1 fq1 ha1 e1 k2 a2 nk2 x2 sx2 q2 sq2 h2 fx2 fq2 sd2 xb qb h3 sd3 sx3 sq3 fx3 fq3 sd2' ha3 e3 k4 a4 nk4 x4 sx4 q4 sq4 h4 fx4 fq4 sd4a sd4b ha4 e4 k5 a5 nk5 x5 sx5 g5 k55 q5 sq5 h5 e150 fx5 fq5 sd5a sd5b S5 s0 xs qs l5 h6 d1 d2 d3 fx6 fq6 px pq gx gq hR rx rq; omega), hR⟩, XT_tr fx6 rx, QT_tr fq6 rq⟩
            · refine .inr ⟨M', fun Qr Qt g => t_82 fun V hV hW => px V Qr Qt hV hW (gx V Qr Qt hV hW g), XT_tr fx6 rx, fun hb => ?_⟩
              obtain ⟨N', gq, hF, rq⟩ := gb hb
              exact ⟨N', QL_E (toQ fun Qr Qt g => t_401 fun V hV hW => pq V Qr Qt hV hW (gq V Qr Qt hV hW g)) (QEc_s hF.1), hF, QT_tr fq6 rq⟩
          · refine .inr ⟨bdX M4 f (M4 76 (a + 1 + 1 + 1 + 1)), fun Qr Qt g => t_82 fun V hV hW => b_82_0 (Tr_mono _) hV hW _ ?_, XT_bd fx4, fun hb => ?_⟩
            · rw [if_neg c40]
              exact Ex_le (d := 3) (by decide) xa _ _ (ri_i (Ex_le (d := 2) (by decide) x2 _ _ (rv_i (Ex_le (d := 3) (by decide) xb _ _ (ri_i (Ex_le (d := 3) (by decide) x4 _ _ (rv_i (Th_le (d := 2) (by decide) (x_73b ha4 e4 hf) _ _ g))))))))
            · have sp := sp_b (p := M4 76 (a + 1 + 1 + 1 + 1)) (CB_16 h4.1 hb) (Bd_f hf)
              refine ⟨_, QL_E (toQ (N' := bf_ N4 f (M4 76 (a + 1 + 1 + 1 + 1))) fun Qr Qt g => t_401 fun V hV hW => b_401_0 (Tr_mono _) hV hW _ ⟨i9, ?_⟩) (QEc_s sp), FQc_b (CB_16 h4.1 hb) (Bd_f hf), QT_bf fq4⟩
              rw [if_neg nq]
              refine qa _ _ (ri_i (Ex_le (d := 3) (by decide) q2 _ _ (rv_i (qb _ _ (ri_i (Ex_le (d := 3) (by decide) q4 _ _ (rv_i (Ex_le (d := 3) (by decide) (c_233b h4.1 hb hf) _ _ (ri_i (Ex_le (d := 1) (by decide) (s_227 sp) _ _ (ri_i ?_)))))))))))
              rw [if_neg (by decide)]; exact g
        · refine .inr ⟨bdX M3 f (M3 76 (a + 1 + 1 + 1)), fun Qr Qt g => t_82 fun V hV hW => b_82_0 (Tr_mono _) hV hW _ ?_, XT_bd fx3, fun hb => ?_⟩
          · rw [if_neg c40]
            exact Ex_le (d := 3) (by decide) xa _ _ (ri_i (Ex_le (d := 2) (by decide) x2 _ _ (rv_i (Ex_le (d := 3) (by decide) xb _ _ (ri_i (Th_le (d := 3) (by decide) (x_76b (c := 58) ha3 e3 (by decide) hf) _ _ g))))))
          · have sp := sp_b (p := M3 76 (a + 1 + 1 + 1)) (CB_16 h3.1 hb) (Bd_f hf)
            refine ⟨_, QL_E (toQ (N' := bf_ N3 f (M3 76 (a + 1 + 1 + 1))) fun Qr Qt g => t_401 fun V hV hW => b_401_0 (Tr_mono _) hV hW _ ⟨i9, ?_⟩) (QEc_s sp), FQc_b (CB_16 h3.1 hb) (Bd_f hf), QT_bf fq3⟩
            rw [if_neg nq]
            refine qa _ _ (ri_i (Ex_le (d := 3) (by decide) q2 _ _ (rv_i (qb _ _ (ri_i (Ex_le (d := 3) (by decide) (c_244b h3.1 hb (x := 58) (by decide) hf) _ _ (rv_i (Ex_le (d := 3) (by decide) (s_233 sp) _ _ (ri_i (Ex_le (d := 1) (by decide) (s_227 sp) _ _ (ri_i ?_)))))))))))
            rw [if_neg (by decide)]; exact g
      · refine .inr ⟨bdX M2 f (M2 76 (a + 1 + 1)), fun Qr Qt g => t_82 fun V hV hW => b_82_0 (Tr_mono _) hV hW _ ?_, XT_bd fx2, fun hb => ?_⟩
        · rw [if_neg c40]
          exact Ex_le (d := 3) (by decide) xa _ _ (ri_i (Ex_le (d := 2) (by decide) x2 _ _ (rv_i (Th_le (d := 3) (by decide) xb _ _ g))))
        · obtain ⟨y, qb⟩ := qb hb
          have sp := sp_b (p := M2 76 (a + 1 + 1)) (CB_16 h2.1 hb) f0
          refine ⟨_, QL_E (toQ (N' := bf_ N2 f (M2 76 (a + 1 + 1))) fun Qr Qt g => t_401 fun V hV hW => b_401_0 (Tr_mono _) hV hW _ ⟨i9, ?_⟩) (QEc_s sp), FQc_b (CB_16 h2.1 hb) f0, QT_bf fq2⟩
          rw [if_neg nq]
          refine qa _ _ (ri_i (Ex_le (d := 3) (by decide) q2 _ _ (rv_i (qb _ _ (ri_i (Ex_le (d := 3) (by decide) (s_244 sp) _ _ (rv_i (Ex_le (d := 3) (by decide) (s_233 sp) _ _ (ri_i (Ex_le (d := 1) (by decide) (s_227 sp) _ _ (ri_i ?_)))))))))))
          rw [if_neg (by decide)]; exact g
    · refine .inr ⟨bdX M1 f (M1 76 (a + 1)), fun Qr Qt g => t_82 fun V hV hW => b_82_0 (Tr_mono _) hV hW _ ?_, XT_bd fx1, fun hb => ?_⟩
      · rw [if_neg c40]
        exact Ex_le (d := 3) (by decide) xa _ _ (ri_i (Th_le (d := 2) (by decide) (x_73b ha1 e1 hf) _ _ g))
      · have sp := sp_b (p := M1 76 (a + 1)) (CB_16 h1.1 hb) (Bd_f hf)
        refine ⟨_, QL_E (toQ (N' := bf_ N1 f (M1 76 (a + 1))) fun Qr Qt g => t_401 fun V hV hW => b_401_0 (Tr_mono _) hV hW _ ⟨i9, ?_⟩) (QEc_s sp), FQc_b (CB_16 h1.1 hb) (Bd_f hf), QT_bf fq1⟩
        rw [if_neg nq]
        refine qa _ _ (ri_i (Ex_le (d := 3) (by decide) (c_244b h1.1 hb (x := 260) (by decide) hf) _ _ (rv_i (s_402 sp _ _ (ri_i (Ex_le (d := 3) (by decide) (s_244 sp) _ _ (rv_i (Ex_le (d := 3) (by decide) (s_233 sp) _ _ (ri_i (Ex_le (d := 1) (by decide) (s_227 sp) _ _ (ri_i ?_)))))))))))
        rw [if_neg (by decide)]; exact g
  · refine .inr ⟨bdX M f (M 76 a), fun Qr Qt g => t_82 fun V hV hW => b_82_0 (Tr_mono _) hV hW _ ?_, XT_bd XT_rf, fun hb => ?_⟩
    · rw [if_neg c40]
      exact Th_le (d := 3) (by decide) xa _ _ g
    · obtain ⟨y, qa⟩ := qa hb
      have sp := sp_b (p := M 76 a) (CB_16 h.1 hb) f0
      refine ⟨_, QL_E (toQ (N' := bf_ N f (M 76 a)) fun Qr Qt g => t_401 fun V hV hW => b_401_0 (Tr_mono _) hV hW _ ⟨i9, ?_⟩) (QEc_s sp), FQc_b (CB_16 h.1 hb) f0, QT_bf QT_rf⟩
      rw [if_neg nq]
      refine qa _ _ (ri_i (Ex_le (d := 3) (by decide) (s_244 sp) _ _ (rv_i (s_402 sp _ _ (ri_i (Ex_le (d := 3) (by decide) (s_244 sp) _ _ (rv_i (Ex_le (d := 3) (by decide) (s_233 sp) _ _ (ri_i (Ex_le (d := 1) (by decide) (s_227 sp) _ _ (ri_i ?_)))))))))))
      rw [if_neg (by decide)]; exact g
end LNc
end T428_ln
section T429_al
/-! charts: alts and opts, steps of Q's loop and of the relation -/
def xdL9 : List Nat := [0, 44, 45, 46, 47, 48, 49, 50, 51, 52, 53]
def xdI9 : List Int := [75, 76, 77, 78, 79, 92, 93, 94, 95]
def qdL9 : List Nat := [6, 254, 255, 256, 257, 258, 259, 260, 261, 262, 263, 264, 266]
def qdI9 : List Int := [12, 13, 14, 170, 171, 172, 186]
def XTd (M M' : mm_) : Prop := (∀ r, r ∉ xdL9 → M' r = M r) ∧ ∀ i, i ∉ xdI9 → M' 0 i = M 0 i
def QTd (N N' : mm_) : Prop := (∀ r, r ∉ qdL9 → N' r = N r) ∧ ∀ i, i ∉ qdI9 → N' 6 i = N 6 i
section ALa
variable {b : Int} {M N M' N' M1 N1 M2 N2 : mm_} {a a' k f t x c w p i u v s l o : Int}
theorem XTd_c [Inhabited fz_] (h : XTc M M') : XTd M M' := ⟨fun r hr => h.1 r fun z => hr (by
  unfold xtL at z; simp only [List.mem_cons, List.not_mem_nil, or_false] at z
  rcases z with rfl | rfl | rfl | rfl | rfl | rfl | rfl | rfl <;> decide), fun i hi => h.2 i fun z => hi (by
  unfold xtI at z; simp only [List.mem_cons, List.not_mem_nil, or_false] at z
  rcases z with rfl | rfl | rfl | rfl | rfl <;> decide)⟩
theorem QTd_c [Inhabited fz_] (h : QT9 N N') : QTd N N' := ⟨fun r hr => h.1 r fun z => hr (by
  unfold qtL at z; simp only [List.mem_cons, List.not_mem_nil, or_false] at z
  rcases z with rfl | rfl | rfl | rfl | rfl | rfl | rfl | rfl | rfl <;> decide), fun i hi => h.2 i fun z => hi (by
  unfold qtI at z; simp only [List.mem_cons, List.not_mem_nil, or_false] at z
  rcases z with rfl | rfl | rfl | rfl | rfl <;> decide)⟩
theorem XTd_rf [Inhabited fz_] : XTd M M := ⟨fun _ _ => rfl, fun _ _ => rfl⟩
theorem QTd_rf [Inhabited fz_] : QTd N N := ⟨fun _ _ => rfl, fun _ _ => rfl⟩
theorem XTd_tr [Inhabited fz_] (h : XTd M M1) (g : XTd M1 M2) : XTd M M2 := ⟨fun r hr => by rw [g.1 r hr, h.1 r hr], fun i hi => by rw [g.2 i hi, h.2 i hi]⟩
theorem QTd_tr [Inhabited fz_] (h : QTd N N1) (g : QTd N1 N2) : QTd N N2 := ⟨fun r hr => by rw [g.1 r hr, h.1 r hr], fun i hi => by rw [g.2 i hi, h.2 i hi]⟩
theorem XTd_0 [Inhabited fz_] (h : XTd M M1) (hi : i ∈ xdI9) : XTd M (up_ M1 0 i v) := ⟨fun r hr => by rw [up_ne (by rintro rfl; exact hr (by decide))]; exact h.1 r hr, fun j hj => by rw [upo (by rintro rfl; exact hj hi)]; exact h.2 j hj⟩
theorem QTd_6 [Inhabited fz_] (h : QTd N N1) (hi : i ∈ qdI9) : QTd N (up_ N1 6 i v) := ⟨fun r hr => by rw [up_ne (by rintro rfl; exact hr (by decide))]; exact h.1 r hr, fun j hj => by rw [upo (by rintro rfl; exact hj hi)]; exact h.2 j hj⟩
theorem XTd_r [Inhabited fz_] {r : Nat} (h : XTd M M1) (hr : r ∈ xdL9) (h0 : r ≠ 0) : XTd M (up_ M1 r i v) := ⟨fun r' hr' => by rw [up_ne (by rintro rfl; exact hr' hr)]; exact h.1 r' hr', fun j hj => by rw [up_ne (Ne.symm h0)]; exact h.2 j hj⟩
theorem QTd_r [Inhabited fz_] {r : Nat} (h : QTd N N1) (hr : r ∈ qdL9) (h0 : r ≠ 6) : QTd N (up_ N1 r i v) := ⟨fun r' hr' => by rw [up_ne (by rintro rfl; exact hr' hr)]; exact h.1 r' hr', fun j hj => by rw [up_ne (Ne.symm h0)]; exact h.2 j hj⟩
theorem XTd_bd [Inhabited fz_] (h : XTd M M1) : XTd M (bdX M1 f p) := XTd_0 (XTd_0 h (by decide)) (by decide)
theorem QTd_bf [Inhabited fz_] (h : QTd N N1) : QTd N (bf_ N1 f p) := QTd_6 (QTd_6 h (by decide)) (by decide)
theorem SGP_d [Inhabited fz_] (h : SGP M N) (hx : XTd M M') (hq : QTd N N') : SGP M' N' := by
  unfold SGP gdB at *
  rw [hx.1 4 (by decide), hx.1 42 (by decide), hx.1 43 (by decide), hx.1 74 (by decide), hx.1 75 (by decide), hx.1 76 (by decide), hx.1 77 (by decide), hq.1 151 (by decide), hq.1 152 (by decide), hq.2 17 (by decide)]
  exact h
/-- what the rows of an alt leave as it was -/
def KPc (M N M' N' : mm_) : Prop := (M 0 78 ≤ M' 0 78 ∧ M' 0 79 = M 0 79) ∧ (∀ j, 0 ≤ j → j < M 0 79 → N' 263 j = N 263 j ∧ N' 264 j = N 264 j) ∧ ∀ k, 0 ≤ k → k < M 0 78 → N' 266 k = N 266 k
theorem KPc_rf [Inhabited fz_] : KPc M N M N := ⟨⟨Int.le_refl _, rfl⟩, fun _ _ _ => ⟨rfl, rfl⟩, fun _ _ _ => rfl⟩
theorem KPc_tr [Inhabited fz_] (h : KPc M N M1 N1) (g : KPc M1 N1 M2 N2) : KPc M N M2 N2 := ⟨⟨Int.le_trans h.1.1 g.1.1, by rw [g.1.2, h.1.2]⟩, fun j j0 j1 => by
  have := g.2.1 j j0 (by rw [h.1.2]; exact j1)
  rw [this.1, this.2]; exact h.2.1 j j0 j1, fun k k0 k1 => by rw [g.2.2 k k0 (by have := h.1.1; omega)]; exact h.2.2 k k0 k1⟩
theorem KPc_c [Inhabited fz_] (hx : XTc M M') (hq : QT9 N N') : KPc M N M' N' := ⟨⟨by rw [hx.2 78 (by decide)]; exact Int.le_refl _, hx.2 79 (by decide)⟩, fun _ _ _ => by rw [hq.1 263 (by decide), hq.1 264 (by decide)]; exact ⟨rfl, rfl⟩, fun _ _ _ => by rw [hq.1 266 (by decide)]⟩
/-- Q's loop at an alt or opt -/
theorem q_bl [Inhabited fz_] (h : CB b M N a) (hk : M 75 a = 46 ∨ M 75 a = 47) {V : vv_} {Qr : qr_} {Qt : qt_} (hV : Cl_ wd0 (Tr_ wd0 pg0 5) V Qr Qt m_398) (hW : Wk_ V) (g : Tr_ wd0 pg0 5 403 [.inr (.inr 6)] N (rv_ fun M16 => V 42 [rr 6] [] M16) Qt) : V 42 [rr 6] [] N := b_398_42 (Tr_mono _) hV hW _ (Ex_le (d := 1) (by decide) (c_227 h) _ _ (ri_i (by
  rw [if_pos rfl]
  refine ⟨(CB_k h).2.2, ?_⟩
  rw [if_neg (fun z => by have := (kq_0c h).1 z; (clear h hV hW g z; omega))]
  refine Ex_le (d := 3) (by decide) (c_228f h (by decide) (by omega)) _ _ (ri_i ?_)
  rw [if_pos rfl]
  refine ⟨(CB_k h).2.2, ?_⟩
  rw [if_neg (fun z => by have := (kq_1c h).1 z; omega)]
  refine Ex_le (d := 1) (by decide) (c_229f h (w := 25) (by decide) (by (clear h hV hW g; lia))) _ _ (ri_i ?_)
  rw [if_pos rfl]
  by_cases c : M 75 a = 46
  · refine Ex_le (d := 1) (by decide) (c_229t h (w := 46) (by decide) c) _ _ (ri_i ?_)
    rw [if_neg (by decide)]; exact g
  · refine Ex_le (d := 1) (by decide) (c_229f h (w := 46) (by decide) c) _ _ (ri_i ?_)
    rw [if_pos rfl]
    refine Ex_le (d := 1) (by decide) (c_229t h (w := 47) (by decide) (by (clear h hV hW g; lia))) _ _ (ri_i ?_)
    rw [if_neg (by decide)]; exact g)))
/-- what does not begin a line -/
def nst (k : Int) : Prop := k ≠ 45 ∧ k ≠ 100 ∧ k ≠ 25 ∧ k ≠ 46 ∧ k ≠ 47
theorem q_ns [Inhabited fz_] (h : CR b M N a) (hk : nst (M 75 a)) (h2 : M 75 a ≠ 102) {V : vv_} {Qr : qr_} {Qt : qt_} (hV : Cl_ wd0 (Tr_ wd0 pg0 5) V Qr Qt m_398) (hW : Wk_ V) (g1 : M 75 a = 43 → 0 < M 0 79 → N 266 (N 263 (M 0 79 - 1)) = 0 → Tr_ wd0 pg0 5 404 [.inr (.inr 6)] N (rv_ fun M16 => V 42 [rr 6] [] M16) Qt) (g2 : (M 75 a = 43 → 0 < M 0 79 → N 266 (N 263 (M 0 79 - 1)) ≠ 0) → V 173 [rr 6] [] N) : V 42 [rr 6] [] N := b_398_42 (Tr_mono _) hV hW _ (Ex_le (d := 1) (by decide) (c_227 h.1) _ _ (ri_i (by
  obtain ⟨k1, k2, k3, k4, k5⟩ := hk
  have e := h.2.1.2.2.2
  rw [if_pos rfl]
  refine ⟨(CB_k h.1).2.2, ?_⟩
  rw [if_neg (fun z => h2 ((kq_0c h.1).1 z))]
  refine Ex_le (d := 3) (by decide) (c_228f h.1 (by decide) k1) _ _ (ri_i ?_)
  rw [if_pos rfl]
  refine ⟨(CB_k h.1).2.2, ?_⟩
  rw [if_neg (fun z => k2 ((kq_1c h.1).1 z))]
  refine Ex_le (d := 1) (by decide) (c_229f h.1 (w := 25) (by decide) k3) _ _ (ri_i ?_)
  rw [if_pos rfl]
  refine Ex_le (d := 1) (by decide) (c_229f h.1 (w := 46) (by decide) k4) _ _ (ri_i ?_)
  rw [if_pos rfl]
  refine Ex_le (d := 1) (by decide) (c_229f h.1 (w := 47) (by decide) k5) _ _ (ri_i ?_)
  rw [if_pos rfl]
  by_cases c : M 0 79 ≤ 0
  · rw [if_pos (by omega)]; exact g2 (fun _ z => by omega)
  · rw [if_neg (by omega)]
    by_cases c43 : M 75 a = 43
    · refine Ex_le (d := 1) (by decide) (c_229t h.1 (w := 43) (by decide) c43) _ _ (ri_i ?_)
      rw [if_neg (by decide), e.1, w32_id (by omega) (by omega)]
      have o := h.2.2.2.2.1.2 (M 0 79 - 1) (by (clear h h2 hV hW g1 g2 k1 k2 k3 k4 k5 c43; omega)) (by (clear h h2 hV hW g1 g2 k1 k2 k3 k4 k5 e c c43; lia))
      have c6 := h.2.1.2.2.1
      refine ⟨by (clear h h2 hV hW g1 g2 k1 k2 k3 k4 k5 c43 o c6; omega), by (clear h h2 hV hW g1 g2 k1 k2 k3 k4 k5 e c c43; omega), fun _ => ?_⟩
      by_cases z : N 266 (N 263 (M 0 79 - 1)) = 0
      · rw [if_pos z]; exact g1 c43 (by omega) z
      · rw [if_neg z]; exact g2 fun _ _ => z
    · refine Ex_le (d := 1) (by decide) (c_229f h.1 (w := 43) (by decide) c43) _ _ (ri_i ?_)
      rw [if_pos rfl]; exact g2 (fun z => absurd z c43))))
/-- where Q finds that it is wrong -/
theorem q_wr [Inhabited fz_] (h : CR b M N a) (hb : b = 0) (hk : nst (M 75 a)) (hw : 0 < M 0 79 ∨ M 75 a ≠ 102) (h1 : M 75 a = 43 → 0 < M 0 79 → N 266 (N 263 (M 0 79 - 1)) ≠ 0) (h2 : M 75 a = 20 → 0 < M 0 79 → N 266 (N 263 (M 0 79 - 1)) = 0 ∧ N 264 (M 0 79 - 1) ≤ 0) : QEc N (bf_ N 1 (M 76 a)) := by
  have e := h.2.1.2.2.2
  have sp := sp_b (p := M 76 a) (f := 1) (CB_16 h.1 hb) (by decide)
  by_cases c : M 75 a = 102
  · intro V Qr Qt hV hW g
    refine b_398_42 (Tr_mono _) hV hW _ (Ex_le (d := 1) (by decide) (c_227 h.1) _ _ (ri_i ?_))
    rw [if_pos rfl]
    refine ⟨(CB_k h.1).2.2, ?_⟩
    rw [if_pos ((kq_0c h.1).2 c)]
    refine Ex_le (d := 1) (by decide) (c_227 h.1) _ _ (ri_i ?_)
    rw [if_pos rfl, if_neg (by rcases hw with z | z; omega; exact absurd c z)]
    exact Ex_le (d := 2) (by decide) (c_234 h.1 hb) _ _ (rv_i g)
  · intro V Qr Qt hV hW g
    have wr : Tr_ wd0 pg0 5 234 [.inr (.inr 6)] N (rv_ fun M1 => V 42 [rr 6] [] M1) Qt := Ex_le (d := 2) (by decide) (c_234 h.1 hb) _ _ (rv_i (QEc_s sp V Qr Qt hV hW g))
    refine q_ns h hk c hV hW (fun z1 z2 z3 => absurd z3 (h1 z1 z2)) fun _ => b_398_173 (Tr_mono _) hV hW _ ?_
    by_cases c0 : M 0 79 ≤ 0
    · rw [if_pos (by (clear h hb hk hw h1 h2 sp c hV hW g wr; omega))]; exact wr
    · rw [if_neg (by (clear h hb hk hw h1 h2 sp c hV hW g wr; omega))]
      by_cases c20 : M 75 a = 20
      · refine Ex_le (d := 1) (by decide) (c_229t h.1 (w := 20) (by decide) c20) _ _ (ri_i ?_)
        have o := h.2.2.2.2.1.2 (M 0 79 - 1) (by (clear h hb hk hw h1 h2 sp c hV hW g wr c20; omega)) (by omega)
        have c6 := h.2.1.2.2.1
        have z := h2 c20 (by (clear h hb hk hw h1 h2 sp c hV hW g wr c20 o c6; omega))
        rw [if_neg (by decide), e.1, w32_id (by (clear h hb hk hw h1 h2 sp c hV hW g wr c20 o c6 z; omega)) (by omega)]
        refine ⟨by (clear h hb hk hw h1 h2 sp c hV hW g wr c20 o c6 z; omega), by (clear h hb hk hw h1 h2 e sp c hV hW g wr c0 c20 z; omega), fun _ => ?_⟩
        rw [if_pos z.1]
        refine ⟨by omega, ?_⟩
        rw [if_pos z.2]; exact wr
      · refine Ex_le (d := 1) (by decide) (c_229f h.1 (w := 20) (by decide) c20) _ _ (ri_i ?_)
        rw [if_pos rfl]; exact wr
/-- an end -/
theorem q_en [Inhabited fz_] (h : CR b M N a) (hk : M 75 a = 20) (hw : 0 < M 0 79) (h2 : N 266 (N 263 (M 0 79 - 1)) = 0 → 0 < N 264 (M 0 79 - 1)) {V : vv_} {Qr : qr_} {Qt : qt_} (hV : Cl_ wd0 (Tr_ wd0 pg0 5) V Qr Qt m_398) (hW : Wk_ V) (g : V 222 [rr 6] [] N) : V 42 [rr 6] [] N := by
  have e := h.2.1.2.2.2
  refine q_ns h (by unfold nst; (clear h hw h2 hV hW g e; lia)) (by (clear h hw h2 hV hW g e; lia)) hV hW (fun z => by omega) fun _ => b_398_173 (Tr_mono _) hV hW _ ?_
  rw [if_neg (by omega)]
  refine Ex_le (d := 1) (by decide) (c_229t h.1 (w := 20) (by decide) hk) _ _ (ri_i ?_)
  have o := h.2.2.2.2.1.2 (M 0 79 - 1) (by (clear h hk h2 hV hW g; omega)) (by omega)
  have c6 := h.2.1.2.2.1
  rw [if_neg (by decide), e.1, w32_id (by (clear h hk h2 hV hW g o c6; omega)) (by omega)]
  refine ⟨by omega, by omega, fun _ => ?_⟩
  by_cases z : N 266 (N 263 (M 0 79 - 1)) = 0
  · rw [if_pos z]
    refine ⟨by omega, ?_⟩
    rw [if_neg (by have := h2 z; (clear h hk hw h2 hV hW g e o c6 z; omega))]; exact g
  · rw [if_neg z]; exact g
end ALa
end T429_al
section T430_al
/-! charts: what an alt, an or, an end do to the relation -/
section ALb
variable {b : Int} {M N M' N' M1 N1 M2 N2 : mm_} {a a' k f t x c w p i u v s l o m A W : Int}
theorem CR_bl [Inhabited fz_] (h : CR b M N a) (hA : M 0 78 = A) (hW : M 0 79 = W) (h6 : A < 6) (h3 : W < 3) (ho : BV o) (hm : (o = 0 → m = 1) ∧ 1 ≤ m ∧ m ≤ 4)
    (x0 : ∀ r, r ∉ [0, 51, 52, 53] → M' r = M r) (x1 : ∀ i, i ∉ [78, 79, 94, 95] → M' 0 i = M 0 i) (x2 : M' 0 78 = A + 1 ∧ M' 0 79 = W + 1 ∧ M' 0 94 = A ∧ M' 0 95 = 0) (x3 : ∀ r, r ∈ [51, 52, 53] → ∀ i, i ≠ A → M' r i = M r i) (x4 : M' 51 A = m ∧ M' 52 A = M 0 94 ∧ M' 53 A = M 0 95)
    (q0 : ∀ r, r ∉ [6, 262, 263, 264, 266] → N' r = N r) (q1 : ∀ i, i ∉ [172, 186] → N' 6 i = N 6 i) (q2 : N' 6 172 = A + 1 ∧ N' 6 186 = W + 1) (q3 : ∀ r, r ∈ [262, 266] → ∀ i, i ≠ A → N' r i = N r i) (q4 : ∀ r, r ∈ [263, 264] → ∀ i, i ≠ W → N' r i = N r i) (q5 : N' 262 A = m ∧ N' 266 A = o ∧ N' 263 W = A ∧ N' 264 W = 0) : CR b M' N' a := by
  subst hA hW
  obtain ⟨h1, n1, n2, n3, n4, n5, n6⟩ := h
  obtain ⟨c1, c2, ⟨c3, c4, c5⟩, c6, c7, c8⟩ := n1
  have e77 := x1 77 (by decide)
  have e92 := x1 92 (by decide)
  have sd : ∀ u v, SDR M u v → SDR M' u v := fun u v h => by unfold SDR at *; rw [e77, e92]; exact h
  refine ⟨CB_c h1 (fun r hr => x0 r ?_) (fun r hr => q0 r ?_) (x1 75 (by decide)) (q1 12 (by decide)) (q1 16 (by decide)) (fun _ => q1 13 (by decide)), ⟨?_, ?_, ⟨?_, ?_⟩, ?_, ?_⟩, ?_, ?_, ⟨⟨?_, ?_⟩, ?_⟩, ?_, ?_⟩
  · simp only [List.mem_cons, List.not_mem_nil, or_false] at hr
    rcases hr with rfl | rfl | rfl | rfl | rfl <;> decide
  · simp only [List.mem_cons, List.not_mem_nil, or_false] at hr
    rcases hr with rfl | rfl | rfl <;> decide
  · rw [e77, q1 170 (by decide)]; exact c1
  · rw [x1 76 (by decide), q1 171 (by decide)]; exact c2
  · rw [q2.1, x2.1]
  · rw [x2.1]; (clear ho hm x0 x1 q0 q1 x3 x4 q3 h3 q4 h1 n2 n3 n4 n5 n6 c1 c2 c5 c6 c7 c8 e77 e92 sd; lia)
  · rw [q2.2, x2.2.1]
  · rw [x2.2.1]; (clear ho hm x0 x1 q0 q1 h6 x3 x4 q3 q4 q5 h1 n2 n3 n4 n5 n6 c1 c2 c3 c4 c5 c8 e77 e92 sd; lia)
  · unfold INS gdB at *; rw [e77, x0 44 (by decide), x0 45 (by decide), x0 75 (by decide), q0 254 (by decide), q0 255 (by decide), q0 151 (by decide)]; exact n2
  · intro l l0 l1
    rw [x1 76 (by decide)] at l1
    have hl := n3 l l0 l1
    unfold LIN lvL rwL at hl ⊢
    rw [x2.1, x0 46 (by decide), x0 47 (by decide), x0 48 (by decide), x0 49 (by decide), x0 50 (by decide), q0 256 (by decide), q0 257 (by decide), q0 258 (by decide), q0 259 (by decide), q0 260 (by decide), q0 261 (by decide)]
    refine ⟨sd _ _ hl.1, sd _ _ hl.2.1, hl.2.2.1, hl.2.2.2.1, hl.2.2.2.2.1, hl.2.2.2.2.2.1, fun j j0 j1 => ?_⟩
    have hj := hl.2.2.2.2.2.2 j j0 j1
    rw [x3 52 (by decide) _ (by (clear ho hm x0 x1 q0 q1 h6 x3 x4 q3 h3 q4 h1 n2 n3 n4 n5 n6 c1 c2 c4 c5 c6 c7 c8 e77 e92 sd l0 l1 hl j0 j1; lia)), x3 53 (by decide) _ (by (clear ho hm x0 x1 q0 q1 h6 x3 x4 q3 h3 q4 h1 n2 n3 n4 n5 n6 c1 c2 c4 c5 c6 c7 c8 e77 e92 sd l0 l1 hl j0 j1; omega))]
    exact ⟨by (clear ho hm x0 x1 q0 q1 h6 x3 x4 q3 h3 q4 h1 n2 n3 n4 n5 n6 c1 c2 c4 c5 c6 c7 c8 e77 e92 sd l0 l1 hl j0 j1; lia), hj.2⟩
  · unfold levQ; rw [x2.2.1, if_neg (by (clear ho hm x0 x1 q0 q1 h6 x3 x4 q3 q4 q5 h1 n2 n3 n4 n5 n6 c1 c2 c3 c4 c5 c8 e77 e92 sd; lia)), x2.2.2.1, show M 0 79 + 1 - 1 = M 0 79 by omega, q5.2.2.1]
  · unfold rowQ; rw [x2.2.1, if_neg (by omega), x2.2.2.2, show M 0 79 + 1 - 1 = M 0 79 by omega, q5.2.2.2]
  · intro j j0 j1
    rw [x2.2.1] at j1
    rw [x2.1]
    have lv : ∀ j, 0 ≤ j → j ≤ M 0 79 → levQ N' j = levQ N j ∧ rowQ N' j = rowQ N j := fun j j0 j1 => by
      unfold levQ rowQ
      by_cases z : j = 0
      · rw [if_pos z, if_pos z, if_pos z, if_pos z]; exact ⟨rfl, rfl⟩
      · rw [if_neg z, if_neg z, if_neg z, if_neg z, q4 263 (by decide) _ (by (clear ho hm x0 x1 q0 q1 h6 x3 x4 q3 h3 q4 q5 h1 n2 n3 n4 n5 n6 c1 c2 c3 c4 c5 c7 c8 e77 e92 sd j0 z; omega)), q4 264 (by decide) _ (by omega)]; exact ⟨rfl, rfl⟩
    rw [(lv j j0 (by (clear ho hm x0 x1 q0 q1 h6 x3 x4 q3 h3 q4 q5 h1 n2 n3 n4 n5 n6 c1 c2 c3 c4 c5 c7 c8 e77 e92 sd j0 lv; omega))).1, (lv j j0 (by omega)).2]
    by_cases e : j = M 0 79
    · subst e
      rw [q5.2.2.1, q5.2.2.2, x4.1, x4.2.1, x4.2.2, q5.2.1]
      refine ⟨by (clear ho hm x0 x1 q0 q1 x3 x4 q3 h3 q4 h1 n2 n3 n4 n5 n6 c1 c2 c5 c6 c7 c8 e77 e92 sd lv j0 j1; lia), n4.1.1, n4.1.2, by omega, fun z => by rw [hm.1 z]; rfl, fun i i0 i1 => ?_⟩
      rw [q4 263 (by decide) i (by (clear ho hm x0 x1 q0 q1 h6 x3 x4 q3 h3 q4 q5 h1 n2 n3 n4 n5 n6 c1 c2 c3 c4 c5 c7 c8 e77 e92 sd lv j0 j1 i0; lia))]
      exact (n4.2 i i0 i1).1.2
    · have o := n4.2 j j0 (by (clear ho hm x0 x1 q0 q1 h6 x3 x4 q3 h3 q4 q5 h1 n2 n3 n4 n5 n6 c1 c2 c3 c4 c5 c7 c8 e77 e92 sd j0 lv; lia))
      rw [q4 263 (by decide) j e, q4 264 (by decide) j e, x3 51 (by decide) _ (by (clear ho hm x0 x1 q0 q1 h6 x3 x4 q3 h3 q4 h1 n2 n3 n4 n5 n6 c1 c2 c4 c5 c6 c7 c8 e77 e92 sd j0 j1 lv e; lia)), x3 52 (by decide) _ (by (clear ho hm x0 x1 q0 q1 h6 x3 x4 q3 h3 q4 h1 n2 n3 n4 n5 n6 c1 c2 c4 c5 c6 c7 c8 e77 e92 sd j0 j1 lv e; omega)), x3 53 (by decide) _ (by (clear ho hm x0 x1 q0 q1 h6 x3 x4 q3 h3 q4 h1 n2 n3 n4 n5 n6 c1 c2 c4 c5 c6 c7 c8 e77 e92 sd j0 j1 lv e; omega)), q3 266 (by decide) _ (by (clear ho hm x0 x1 q0 q1 h6 x3 x4 q3 h3 q4 h1 n2 n3 n4 n5 n6 c1 c2 c4 c5 c6 c7 c8 e77 e92 sd j0 j1 lv e; omega))]
      refine ⟨by (clear ho hm x0 x1 q0 q1 h6 x3 x4 q3 h3 q4 h1 n2 n3 n4 n5 n6 c1 c2 c4 c5 c6 c7 c8 e77 e92 sd j0 j1 lv e; omega), o.2.1, o.2.2.1, o.2.2.2.1, o.2.2.2.2.1, fun i i0 i1 => ?_⟩
      rw [q4 263 (by decide) i (by (clear ho hm x0 x1 q0 q1 h6 x3 x4 q3 h3 q4 q5 h1 n2 n3 n4 n5 n6 c1 c2 c3 c4 c5 c7 c8 e77 e92 sd j0 lv e o i0; lia))]
      exact o.2.2.2.2.2 i i0 i1
  · intro k k0 k1
    rw [x2.1] at k1
    by_cases e : k = M 0 78
    · subst e; rw [x4.1, q5.1, q5.2.1]; exact ⟨rfl, hm.2.1, hm.2.2, ho⟩
    · rw [x3 51 (by decide) k e, q3 262 (by decide) k e, q3 266 (by decide) k e]; exact n5 k k0 (by (clear ho hm x0 x1 q0 q1 h6 x3 x4 q3 h3 q4 h1 n2 n3 n4 n5 n6 c1 c2 c4 c5 c6 c7 c8 e77 e92 sd k0; lia))
  · unfold NTE at *; rw [e92, x1 93 (by decide), q1 13 (by decide), q1 14 (by decide)]; exact n6
theorem CR_or [Inhabited fz_] (h : CR b M N a) (hk : N 263 (M 0 79 - 1) = k) (hW : 0 < M 0 79) (h0 : N 266 k = 0) (h4 : M 51 k < 4)
    (x0 : ∀ r, r ∉ [0, 51] → M' r = M r) (x1 : ∀ i, i ≠ 95 → M' 0 i = M 0 i) (x2 : M' 0 95 = M 51 k) (x3 : ∀ i, i ≠ k → M' 51 i = M 51 i) (x4 : M' 51 k = M 51 k + 1)
    (q0 : ∀ r, r ∉ [262, 264] → N' r = N r) (q2 : ∀ i, i ≠ k → N' 262 i = N 262 i) (q3 : N' 262 k = N 262 k + 1) (q4 : ∀ i, i ≠ M 0 79 - 1 → N' 264 i = N 264 i) (q5 : N' 264 (M 0 79 - 1) = N 264 (M 0 79 - 1) + 1) : CR b M' N' a := by
  subst hk
  obtain ⟨h1, n1, n2, n3, n4, n5, n6⟩ := h
  have top := n4.2 (M 0 79 - 1) (by (clear x0 x1 q0 q4 q5 h0 h4 x2 x3 x4 q2 q3 h1 n1 n2 n3 n4 n5 n6; omega)) (by omega)
  have e77 := x1 77 (by decide)
  have e78 := x1 78 (by decide)
  have e79 := x1 79 (by decide)
  have e92 := x1 92 (by decide)
  have q6 := q0 6 (by decide)
  have sd : ∀ u v, SDR M u v → SDR M' u v := fun u v h => by unfold SDR at *; rw [e77, e92]; exact h
  refine ⟨CB_c h1 (fun r hr => x0 r ?_) (fun r hr => q0 r ?_) (x1 75 (by decide)) (by rw [q6]) (by rw [q6]) (fun _ => by rw [q6]), ?_, ?_, ?_, ⟨⟨?_, ?_⟩, ?_⟩, ?_, ?_⟩
  · simp only [List.mem_cons, List.not_mem_nil, or_false] at hr
    rcases hr with rfl | rfl | rfl | rfl | rfl <;> decide
  · simp only [List.mem_cons, List.not_mem_nil, or_false] at hr
    rcases hr with rfl | rfl | rfl <;> decide
  · unfold CNTc; rw [e77, e78, e79, x1 76 (by decide), q6]; exact n1
  · unfold INS gdB at *; rw [e77, x0 44 (by decide), x0 45 (by decide), x0 75 (by decide), q0 254 (by decide), q0 255 (by decide), q0 151 (by decide)]; exact n2
  · intro l l0 l1
    rw [x1 76 (by decide)] at l1
    have hl := n3 l l0 l1
    unfold LIN lvL rwL at hl ⊢
    rw [e78, x0 46 (by decide), x0 47 (by decide), x0 48 (by decide), x0 49 (by decide), x0 50 (by decide), x0 52 (by decide), x0 53 (by decide), q0 256 (by decide), q0 257 (by decide), q0 258 (by decide), q0 259 (by decide), q0 260 (by decide), q0 261 (by decide)]
    exact ⟨sd _ _ hl.1, sd _ _ hl.2.1, hl.2.2⟩
  · unfold levQ at *; rw [e79, x1 94 (by decide), q0 263 (by decide)]; exact n4.1.1
  · unfold rowQ; rw [e79, if_neg (by (clear x0 x1 q0 q4 q5 h0 h4 x2 x3 x4 q2 q3 h1 n1 n2 n3 n4 n5 n6 top e77 e78 e92 q6 sd; lia)), x2, q5]; exact (top.2.2.2.2.1 h0).symm
  · intro j j0 j1
    rw [e79] at j1
    have o := n4.2 j j0 j1
    have lv : levQ N' j = levQ N j ∧ rowQ N' j = rowQ N j := by
      unfold levQ rowQ
      by_cases z : j = 0
      · rw [if_pos z, if_pos z, if_pos z, if_pos z]; exact ⟨rfl, rfl⟩
      · rw [if_neg z, if_neg z, if_neg z, if_neg z, q0 263 (by decide), q4 _ (by (clear hW x0 x1 q0 q4 q5 h0 h4 x2 x3 x4 q2 q3 h1 n1 n2 n3 n4 n5 n6 top e77 e78 e92 q6 sd j0 o z; lia))]; exact ⟨rfl, rfl⟩
    rw [lv.1, lv.2, e78, x0 52 (by decide), x0 53 (by decide), q0 263 (by decide), q0 266 (by decide)]
    by_cases e : j = M 0 79 - 1
    · subst e
      rw [q5, x4]
      exact ⟨o.1, o.2.1, o.2.2.1, by (clear hW x0 x1 q0 q4 q5 h0 h4 x2 x3 x4 q2 q3 h1 n1 n2 n3 n4 n5 n6 e77 e78 e79 e92 q6 sd j0 j1 o lv; omega), fun z => by have := o.2.2.2.2.1 z; (clear hW x0 x1 q0 q4 q5 h0 h4 x3 q2 q3 h1 n1 n2 n3 n4 n5 n6 top e77 e78 e79 e92 q6 sd j0 j1 o lv z; lia), o.2.2.2.2.2⟩
    · have lt := top.2.2.2.2.2 j j0 (by (clear hW x0 x1 q0 q4 q5 h0 h4 x2 x3 x4 q2 q3 h1 n1 n2 n3 n4 n5 n6 top e77 e78 e92 q6 sd j0 o lv; lia))
      rw [q4 j e, x3 _ (by (clear hW x0 x1 q0 q4 q5 h0 h4 x2 x3 x4 q2 q3 h1 n1 n2 n3 n4 n5 n6 top e77 e78 e79 e92 q6 sd j0 j1 o lv e; omega))]
      exact ⟨o.1, o.2.1, o.2.2.1, o.2.2.2.1, o.2.2.2.2.1, o.2.2.2.2.2⟩
  · intro k k0 k1
    rw [e78] at k1
    rw [q0 266 (by decide)]
    have a5 := n5 k k0 k1
    by_cases e : k = N 263 (M 0 79 - 1)
    · subst e; rw [x4, q3]; exact ⟨by (clear hW x0 x1 q0 q4 q5 h0 h4 x3 q2 q3 h1 n1 n2 n3 n4 n5 n6 top e77 e78 e79 e92 q6 sd k0 k1; omega), by (clear hW x0 x1 q0 q4 q5 h0 x3 q2 q3 h1 n1 n2 n3 n4 n5 n6 top e77 e78 e79 e92 q6 sd k0 k1; lia), by (clear hW x0 x1 q0 q4 q5 h0 x3 q2 q3 h1 n1 n2 n3 n4 n5 n6 top e77 e78 e79 e92 q6 sd k0 k1; omega), a5.2.2.2⟩
    · rw [x3 k e, q2 k e]; exact a5
  · unfold NTE at *; rw [e92, x1 93 (by decide), q6]; exact n6
theorem CR_en [Inhabited fz_] (h : CR b M N a) (hW : 0 < M 0 79) (hk : N 263 (M 0 79 - 1) = k) : CR b (up_ (up_ (up_ M 0 79 (M 0 79 - 1)) 0 94 (M 52 k)) 0 95 (M 53 k)) (up_ N 6 186 (M 0 79 - 1)) a := by
  subst hk
  obtain ⟨h1, n1, n2, n3, n4, n5, n6⟩ := h
  obtain ⟨c1, c2, c3, c6, c7, c8⟩ := n1
  have top := n4.2 (M 0 79 - 1) (by (clear h1 n2 n3 n4 n5 n6 c1 c2 c3 c7; lia)) (by (clear hW h1 n2 n3 n4 n5 n6 c1 c2 c3 c6 c7 c8; omega))
  have x0 : ∀ r, r ≠ 0 → (up_ (up_ (up_ M 0 79 (M 0 79 - 1)) 0 94 (M 52 (N 263 (M 0 79 - 1)))) 0 95 (M 53 (N 263 (M 0 79 - 1)))) r = M r := fun r hr => by rw [up_ne hr, up_ne hr, up_ne hr]
  have x1 : ∀ i, i ∉ [79, 94, 95] → (up_ (up_ (up_ M 0 79 (M 0 79 - 1)) 0 94 (M 52 (N 263 (M 0 79 - 1)))) 0 95 (M 53 (N 263 (M 0 79 - 1)))) 0 i = M 0 i := fun i hi => by rw [upo (by rintro rfl; exact hi (by decide)), upo (by rintro rfl; exact hi (by decide)), upo (by rintro rfl; exact hi (by decide))]
  have y79 : (up_ (up_ (up_ M 0 79 (M 0 79 - 1)) 0 94 (M 52 (N 263 (M 0 79 - 1)))) 0 95 (M 53 (N 263 (M 0 79 - 1)))) 0 79 = M 0 79 - 1 := by rw [upo (by decide), upo (by decide), up_at]
  have y94 : (up_ (up_ (up_ M 0 79 (M 0 79 - 1)) 0 94 (M 52 (N 263 (M 0 79 - 1)))) 0 95 (M 53 (N 263 (M 0 79 - 1)))) 0 94 = levQ N (M 0 79 - 1) := by rw [upo (by decide), up_at]; exact top.2.1
  have y95 : (up_ (up_ (up_ M 0 79 (M 0 79 - 1)) 0 94 (M 52 (N 263 (M 0 79 - 1)))) 0 95 (M 53 (N 263 (M 0 79 - 1)))) 0 95 = rowQ N (M 0 79 - 1) := by rw [up_at]; exact top.2.2.1
  generalize (up_ (up_ (up_ M 0 79 (M 0 79 - 1)) 0 94 (M 52 (N 263 (M 0 79 - 1)))) 0 95 (M 53 (N 263 (M 0 79 - 1)))) = M' at *
  have q0 : ∀ r, r ≠ 6 → (up_ N 6 186 (M 0 79 - 1)) r = N r := fun r hr => up_ne hr
  have q1 : ∀ i, i ≠ 186 → (up_ N 6 186 (M 0 79 - 1)) 6 i = N 6 i := fun i hi => upo hi
  have q2 : (up_ N 6 186 (M 0 79 - 1)) 6 186 = M 0 79 - 1 := up_at
  generalize (up_ N 6 186 (M 0 79 - 1)) = N' at *
  have e77 := x1 77 (by decide)
  have e78 := x1 78 (by decide)
  have e92 := x1 92 (by decide)
  have sd : ∀ u v, SDR M u v → SDR M' u v := fun u v h => by unfold SDR at *; rw [e77, e92]; exact h
  refine ⟨CB_c h1 (fun r hr => x0 r (by rintro rfl; exact absurd hr (by decide))) (fun r hr => q0 r (by rintro rfl; exact absurd hr (by decide))) (x1 75 (by decide)) (q1 12 (by decide)) (q1 16 (by decide)) (fun _ => q1 13 (by decide)), ⟨?_, ?_, ?_, ?_, ?_⟩, ?_, ?_, ⟨⟨?_, ?_⟩, ?_⟩, ?_, ?_⟩
  · rw [e77, q1 170 (by decide)]; exact c1
  · rw [x1 76 (by decide), q1 171 (by decide)]; exact c2
  · rw [e78, q1 172 (by decide)]; exact c3
  · rw [q2, y79]
  · rw [y79]; (clear h1 n2 n3 n4 n5 n6 c1 c2 c3 c7 top x0 x1 y94 y95 q0 q1 e77 e78 e92 sd; lia)
  · unfold INS gdB at *; rw [e77, x0 44 (by decide), x0 45 (by decide), x0 75 (by decide), q0 254 (by decide), q0 255 (by decide), q0 151 (by decide)]; exact n2
  · intro l l0 l1
    rw [x1 76 (by decide)] at l1
    have hl := n3 l l0 l1
    unfold LIN lvL rwL at hl ⊢
    rw [e78, x0 46 (by decide), x0 47 (by decide), x0 48 (by decide), x0 49 (by decide), x0 50 (by decide), x0 52 (by decide), x0 53 (by decide), q0 256 (by decide), q0 257 (by decide), q0 258 (by decide), q0 259 (by decide), q0 260 (by decide), q0 261 (by decide)]
    exact ⟨sd _ _ hl.1, sd _ _ hl.2.1, hl.2.2⟩
  · rw [y94, y79]; unfold levQ; rw [q0 263 (by decide)]
  · rw [y95, y79]; unfold rowQ; rw [q0 264 (by decide)]
  · intro j j0 j1
    rw [y79] at j1
    have o := n4.2 j j0 (by (clear hW h1 n2 n3 n4 n5 n6 c1 c2 c3 c7 c8 top x0 x1 y94 y95 q0 q1 e77 e78 e92 sd j0; lia))
    unfold levQ rowQ at *
    rw [e78, x0 51 (by decide), x0 52 (by decide), x0 53 (by decide), q0 263 (by decide), q0 264 (by decide), q0 266 (by decide)]
    exact o
  · unfold ALT at *; rw [e78, x0 51 (by decide), q0 262 (by decide), q0 266 (by decide)]; exact n5
  · unfold NTE at *; rw [e92, x1 93 (by decide), q1 13 (by decide), q1 14 (by decide)]; exact n6
end ALb
end T430_al
section T431_al
/-! charts: an alt or opt (X 81 | Q 403, 404) -/
def JX (dx : Nat) (mx : md_) (px : Nat) (lx : lo_) (b : Int) (M N : mm_) (R : mm_ → mm_ → Prop) : Prop := (∃ M' N', (∀ (V : vv_) (Qr : qr_) (Qt : qt_), Cl_ wd0 (Tr_ wd0 pg0 dx) V Qr Qt mx → Wk_ V → Qr [] M' → V px lx [] M) ∧ QL N N' ∧ R M' N' ∧ XTd M M' ∧ QTd N N') ∨ (∃ M', (∀ (V : vv_) (Qr : qr_) (Qt : qt_), Cl_ wd0 (Tr_ wd0 pg0 dx) V Qr Qt mx → Wk_ V → Qt 7 M' → V px lx [] M) ∧ XTd M M' ∧ (b = 0 → ∃ N', QEc N N' ∧ FQc M' N' ∧ QTd N N'))
/-- a level is closed, those below it are as they were -/
def KPd (M N M' N' : mm_) : Prop := (M 0 78 ≤ M' 0 78 ∧ M' 0 79 = M 0 79 - 1) ∧ (∀ j, 0 ≤ j → j < M 0 79 - 1 → N' 263 j = N 263 j ∧ N' 264 j = N 264 j) ∧ ∀ k, 0 ≤ k → k < M 0 78 → N' 266 k = N 266 k
def JOd (d n : Nat) (as : List pv_) (b : Int) (M N : mm_) (R : mm_ → mm_ → Prop) : Prop := (∃ M' N', Ex_ d n as M [] M' ∧ QL N N' ∧ R M' N' ∧ XTd M M' ∧ QTd N N') ∨ (∃ M', Th d n as M M' ∧ XTd M M' ∧ (b = 0 → ∃ N', QEc N N' ∧ FQc M' N' ∧ QTd N N'))
def RWR (b : Int) (M N : mm_) (a : Int) (M' N' : mm_) : Prop := ∃ a', a ≤ a' ∧ CR b M' N' a' ∧ nst (M' 75 a') ∧ KPc M N M' N'
def ROWS (b : Int) (n : Nat) : Prop := ∀ (M N : mm_) (a : Int), CR b M N a → SGP M N → M 0 79 = 3 - (n : Int) → JOd (2 * n + 6) 77 [.inr (.inr 0)] b M N (RWR b M N a)
section ALc
variable {b : Int} {M N M' N' M1 N1 M2 N2 : mm_} {a a' k f t x c w p i u v s l o m A W : Int} {dx : Nat}
/-- from END on -/
theorem en_x [Inhabited fz_] (hd : 3 ≤ dx) (h : CR b M N a) (hn : nst (M 75 a)) (hW : 0 < M 0 79) (hk : N 263 (M 0 79 - 1) = k) (h0 : N 266 k = 0 → 0 < N 264 (M 0 79 - 1) ∧ M 75 a ≠ 43) : JX dx m_81 208 [rr 0, ii o, ii k] b M N (fun M' N' => ∃ a', a < a' ∧ CR b M' N' a' ∧ KPd M N M' N') := by
  have ha := CB_a h.1
  have e := h.1.2.2.1.1
  rcases Bd_or h.1 20 with ⟨k1, a1⟩ | ⟨f, hf⟩
  · have nk := nk_of k1 (by decide) (by decide)
    have h1 := CR_nx h nk.1 nk.2 a1
    have x1 := x_73 ha e k1 a1
    have q1 := c_230 h.1 a1
    have toQ : ∀ {V : vv_} {Qr : qr_} {Qt : qt_}, Cl_ wd0 (Tr_ wd0 pg0 5) V Qr Qt m_398 → Wk_ V → V 222 [rr 6] [] N → V 42 [rr 6] [] N := fun hV hW' g => q_en h k1 hW (fun z => (h0 (by rw [← hk]; exact z)).1) hV hW' g
    have sx1 : xsm M (up_ M 0 75 (a + 1)) := xsm_nx
    have sq1 : qsm N (nx_ N) := qsm_nx
    generalize up_ M 0 75 (a + 1) = M1 at *
    generalize nx_ N = N1 at *
    have fx1 := XTd_c (xsm_XT sx1)
    have fq1 := QTd_c (qsm_QT sq1)
    have ha1 := CB_a h1.1
    have e1 := h1.1.2.2.1.1
    have e79 : M1 0 79 = M 0 79 := sx1.2.1 79 (by decide)
    have e78 : M1 0 78 = M 0 78 := sx1.2.1 78 (by decide)
    have hk1 : N1 263 (M1 0 79 - 1) = k := by rw [e79, sq1.1 263 (by decide)]; exact hk
    have c8 := h1.2.1.2.2.2
    rcases Bd_or h1.1 259 with ⟨k2, a2⟩ | ⟨f, hf⟩
    · have nk2 := nk_of k2 (by decide) (by decide)
      have h2 := CR_nx h1 nk2.1 nk2.2 a2
      have x2 := x_76 (c := 59) ha1 e1 (by decide) k2 a2
      have q2 := c_244 h1.1 (x := 59) (by decide) k2 a2
      have sx2 : xsm M1 (up_ M1 0 75 (a + 1 + 1)) := xsm_nx
      have sq2 : qsm N1 (nx_ N1) := qsm_nx
      generalize up_ M1 0 75 (a + 1 + 1) = M2 at *
      generalize nx_ N1 = N2 at *
      have fx2 := XTd_tr fx1 (XTd_c (xsm_XT sx2))
      have fq2 := QTd_tr fq1 (QTd_c (qsm_QT sq2))
      have e792 : M2 0 79 = M 0 79 := by rw [sx2.2.1 79 (by decide)]; exact e79
      have e782 : M2 0 78 = M 0 78 := by rw [sx2.2.1 78 (by decide)]; exact e78
      have hk2 : N2 263 (M2 0 79 - 1) = k := by rw [sx2.2.1 79 (by decide), sq2.1 263 (by decide)]; exact hk1
      have c82 := h2.2.1.2.2.2
      have h3 := CR_en h2 (by (clear hd h hn hk h0 ha e k1 a1 nk toQ x1 sx1 q1 sq1 h1 fx1 fq1 ha1 e1 e78 hk1 k2 a2 nk2 x2 sx2 q2 sq2 h2 fx2 fq2 e782 hk2; omega)) hk2
      have top := h2.2.2.2.2.1.2 (M2 0 79 - 1) (by (clear hd h hn hk h0 ha e k1 a1 nk toQ x1 sx1 q1 sq1 h1 fx1 fq1 ha1 e1 e78 hk1 k2 a2 nk2 x2 sx2 q2 sq2 h2 fx2 fq2 e782 hk2 h3; lia)) (by omega)
      have k6 : 0 ≤ k ∧ k < 6 := by have := h2.2.1.2.2.1; rw [hk2] at top; (clear hd h hn hW hk h0 ha e k1 a1 nk toQ x1 sx1 q1 sq1 h1 fx1 fq1 ha1 e1 e79 e78 c8 k2 a2 nk2 x2 sx2 q2 sq2 h2 fx2 fq2 e792 e782 c82 h3; omega)
      refine .inl ⟨_, _, fun V Qr Qt hV hW' g => b_81_208 (Tr_mono _) hV hW' _ _ _ (Ex_le (d := 2) (by omega) x1 _ _ (rv_i (Ex_le (d := 3) hd x2 _ _ (rv_i ⟨k6, k6, ?_⟩)))), fun V Qr Qt hV hW' g => toQ hV hW' (b_398_222 (Tr_mono _) hV hW' _ (Ex_le (d := 2) (by decide) q1 _ _ (rv_i (Ex_le (d := 3) (by decide) q2 _ _ (rv_i (Ex_le (d := 1) (by decide) (c_227 h2.1) _ _ (ri_i ?_))))))), ⟨_, by omega, h3, ⟨?_, ?_⟩, fun j j0 j1 => ?_, fun j j0 j1 => ?_⟩, XTd_0 (XTd_0 (XTd_0 fx2 (by decide)) (by decide)) (by decide), QTd_6 fq2 (by decide)⟩
      · rw [w32_id (by (clear hd h hn hk h0 ha e k1 a1 nk toQ x1 sx1 q1 sq1 h1 fx1 fq1 ha1 e1 e78 hk1 k2 a2 nk2 x2 sx2 q2 sq2 h2 fx2 fq2 e782 hk2 h3 top k6 hV hW' g; lia)) (by (clear hd h hn hk h0 ha e k1 a1 nk toQ x1 sx1 q1 sq1 h1 fx1 fq1 ha1 e1 e78 hk1 k2 a2 nk2 x2 sx2 q2 sq2 h2 fx2 fq2 e782 hk2 h3 top k6 hV hW' g; lia))]; exact g
      · rw [if_pos rfl, c82.1, w32_id (by omega) (by omega)]; exact g
      · rw [upo (by decide), upo (by decide), upo (by decide), e782]; omega
      · rw [upo (by decide), upo (by decide), up_at, e792]
      · rw [up_ne (by decide), up_ne (by decide), sq2.1 263 (by decide), sq2.1 264 (by decide), sq1.1 263 (by decide), sq1.1 264 (by decide)]; exact ⟨rfl, rfl⟩
      · rw [up_ne (by decide), sq2.1 266 (by decide), sq1.1 266 (by decide)]
    · refine .inr ⟨bdX M1 f (M1 76 (a + 1)), fun V Qr Qt hV hW' g => b_81_208 (Tr_mono _) hV hW' _ _ _ (Ex_le (d := 2) (by omega) x1 _ _ (rv_i (Th_le (d := 3) hd (x_76b (c := 59) ha1 e1 (by decide) hf) _ _ g))), XTd_bd fx1, fun hb => ?_⟩
      have sp := sp_b (p := M1 76 (a + 1)) (CB_16 h1.1 hb) (Bd_f hf)
      refine ⟨bf_ N1 f (M1 76 (a + 1)), fun V Qr Qt hV hW' g => toQ hV hW' (b_398_222 (Tr_mono _) hV hW' _ (Ex_le (d := 2) (by decide) q1 _ _ (rv_i (Ex_le (d := 3) (by decide) (c_244b h1.1 hb (x := 59) (by decide) hf) _ _ (rv_i (Ex_le (d := 1) (by decide) (s_227 sp) _ _ (ri_i ?_))))))), FQc_b (CB_16 h1.1 hb) (Bd_f hf), QTd_bf fq1⟩
      rw [if_neg (by decide)]; exact QEc_s sp V Qr Qt hV hW' g
  · refine .inr ⟨bdX M f (M 76 a), fun V Qr Qt hV hW' g => b_81_208 (Tr_mono _) hV hW' _ _ _ (Th_le (d := 2) (by omega) (x_73b ha e hf) _ _ g), XTd_bd XTd_rf, fun hb => ?_⟩
    have sp := sp_b (p := M 76 a) (CB_16 h.1 hb) (Bd_f hf)
    refine ⟨bf_ N f (M 76 a), ?_, FQc_b (CB_16 h.1 hb) (Bd_f hf), QTd_bf QTd_rf⟩
    rcases hf with ⟨f1, rfl⟩ | ⟨f1, f2, rfl⟩
    · exact q_wr h hb hn (.inl hW) (fun z _ y => (h0 (by rw [← hk]; exact y)).2 z) (fun z => absurd z f1)
    · intro V Qr Qt hV hW' g
      refine q_en h f1 hW (fun z => (h0 (by rw [← hk]; exact z)).1) hV hW' (b_398_222 (Tr_mono _) hV hW' _ (Ex_le (d := 2) (by decide) (c_230b h.1 hb f2) _ _ (rv_i (Ex_le (d := 3) (by decide) (s_244 sp) _ _ (rv_i (Ex_le (d := 1) (by decide) (s_227 sp) _ _ (ri_i ?_)))))))
      rw [if_neg (by decide)]; exact QEc_s sp V Qr Qt hV hW' g
theorem KPd_c [Inhabited fz_] (h : KPc M N M1 N1) (g : KPd M1 N1 M2 N2) : KPd M N M2 N2 := ⟨⟨Int.le_trans h.1.1 g.1.1, by rw [g.1.2, h.1.2]⟩, fun j j0 j1 => by
  have := g.2.1 j j0 (by rw [h.1.2]; exact j1)
  rw [this.1, this.2]; exact h.2.1 j j0 (by omega), fun k k0 k1 => by rw [g.2.2 k k0 (by have := h.1.1; omega)]; exact h.2.2 k k0 k1⟩
/-- the rows behind an OR -/
theorem or_x [Inhabited fz_] {n : Nat} (hR : ROWS b n) (hd : 2 * n + 6 ≤ dx) : ∀ (q : Nat) (M N : mm_) (a : Int), CR b M N a → SGP M N → nst (M 75 a) → M 0 79 = 3 - (n : Int) → 0 < M 0 79 → N 263 (M 0 79 - 1) = k → N 266 k = 0 → (0 < N 264 (M 0 79 - 1) ∨ M 75 a = 43) → 4 - M 51 k = q → JX dx m_81 146 [rr 0, ii o, ii k] b M N (fun M' N' => ∃ a', a < a' ∧ CR b M' N' a' ∧ KPd M N M' N') := by
  intro q
  induction q with
  | zero =>
    intro M N a h hS hn hW hW0 hk h0 hr hq
    have ha := CB_a h.1
    have e := h.1.2.2.1.1
    have top := h.2.2.2.2.1.2 (M 0 79 - 1) (by (clear hR hd h hS hn hk h0 hr hq ha e; omega)) (by omega)
    have k6 : 0 ≤ k ∧ k < 6 := by have := h.2.1.2.2.1; rw [hk] at top; (clear hR hd h hS hn hW hW0 hk h0 hr hq ha e; omega)
    by_cases c : M 75 a = 43
    · refine .inr ⟨bdX M 2 (M 76 a), fun V Qr Qt hV hW' g => b_81_146 (Tr_mono _) hV hW' _ _ _ (Ex_le (d := 1) (by (clear hR h hS hn hk h0 hr hq ha e top k6 c hV hW' g; lia)) (x_74t ha e c) _ _ (ri_i ?_)), XTd_bd XTd_rf, fun hb => ?_⟩
      · rw [if_neg (by decide)]
        refine ⟨k6, ?_⟩
        rw [if_pos (by (clear hR hd h hS hn hW hW0 hk h0 hr ha e top k6 c hV hW' g; lia)), e]
        refine Ex_le (d := 1) (by omega) (x_75c ha) _ _ (rf_i ?_)
        rw [if_neg (by decide)]; exact g
      · have sp := sp_b (p := M 76 a) (f := 2) (CB_16 h.1 hb) (by decide)
        refine ⟨bf_ N 2 (M 76 a), fun V Qr Qt hV hW' g => q_ns h hn (by omega) hV hW' (fun _ _ _ => t_404 fun V' hV' hW'' => b_404_0 (Tr_mono _) hV' hW'' _ ?_) (fun z => absurd (by rw [hk]; exact h0) (z c hW0)), FQc_b (CB_16 h.1 hb) (by decide), QTd_bf QTd_rf⟩
        have e186 := h.2.1.2.2.2
        have al := h.2.2.2.2.2.1 k k6.1 (by rw [hk] at top; exact top.1.2)
        rw [e186.1, w32_id (by (clear hR hd h hS hn hk h0 hr hq ha e top k6 c hb sp hV hW' g hV' hW'' al; omega)) (by (clear hR hd h hS hn hk h0 hr hq ha e top k6 c hb sp hV hW' g hV' hW'' al; omega)), hk]
        refine ⟨by (clear hR hd h hS hn hk h0 hr hq ha e top k6 c hb sp hV hW' g hV' hW'' al; omega), k6, ?_⟩
        rw [if_pos (by (clear hR hd h hS hn hW hW0 hk h0 hr ha e top k6 c hb sp hV hW' g hV' hW'' e186; omega)), (CB_k h.1).2.1]
        exact ⟨(CB_k h.1).2.2, Ex_le (d := 1) (by decide) (c_231 h.1 hb) _ _ (rv_i (rv_i (QEc_s sp V Qr Qt hV hW' g)))⟩
    · rcases en_x (dx := dx) (o := o) (by (clear hR h hS hn hk h0 hr hq ha e top k6 c; lia)) h hn hW0 hk (fun _ => ⟨hr.resolve_right c, c⟩) with ⟨M', N', gx, r⟩ | ⟨M', gx, r⟩
      · refine .inl ⟨M', N', fun V Qr Qt hV hW' g => b_81_146 (Tr_mono _) hV hW' _ _ _ (Ex_le (d := 1) (by omega) (x_74f ha e c) _ _ (ri_i ?_)), r⟩
        rw [if_pos rfl]; exact gx V Qr Qt hV hW' g
      · refine .inr ⟨M', fun V Qr Qt hV hW' g => b_81_146 (Tr_mono _) hV hW' _ _ _ (Ex_le (d := 1) (by omega) (x_74f ha e c) _ _ (ri_i ?_)), r⟩
        rw [if_pos rfl]; exact gx V Qr Qt hV hW' g
  | succ q ih =>
    intro M N a h hS hn hW hW0 hk h0 hr hq
    have ha := CB_a h.1
    have e := h.1.2.2.1.1
    have top := h.2.2.2.2.1.2 (M 0 79 - 1) (by (clear hR hd ih h hS hn hk h0 hr hq ha e; omega)) (by omega)
    have k6 : 0 ≤ k ∧ k < 6 := by have := h.2.1.2.2.1; rw [hk] at top; (clear hR hd ih h hS hn hW hW0 hk h0 hr hq ha e; omega)
    have al := h.2.2.2.2.2.1 k k6.1 (by rw [hk] at top; exact top.1.2)
    by_cases c : M 75 a = 43
    · have e186 := h.2.1.2.2.2
      by_cases a1 : a < 1200
      · have nk := nk_of c (by decide) (by decide)
        have h1 := CR_nx h nk.1 nk.2 a1
        have x1 := x_73 ha e c a1
        have q1 := c_230 h.1 a1
        have sx1 : xsm M (up_ M 0 75 (a + 1)) := xsm_nx
        have sq1 : qsm N (nx_ N) := qsm_nx
        generalize up_ M 0 75 (a + 1) = M1 at *
        generalize nx_ N = N1 at *
        have e51 : M1 51 = M 51 := sx1.1 51 (by decide)
        have e79 : M1 0 79 = M 0 79 := sx1.2.1 79 (by decide)
        have e78 : M1 0 78 = M 0 78 := sx1.2.1 78 (by decide)
        have f263 : N1 263 = N 263 := sq1.1 263 (by decide)
        have f264 : N1 264 = N 264 := sq1.1 264 (by decide)
        have f262 : N1 262 = N 262 := sq1.1 262 (by decide)
        have f266 : N1 266 = N 266 := sq1.1 266 (by decide)
        have f186 : N1 6 186 = N 6 186 := sq1.2 186 (by decide)
        have hk1 : N1 263 (M1 0 79 - 1) = k := by rw [e79, f263]; exact hk
        have r0 := top.2.2.2.2.1 (by rw [hk]; exact h0)
        rw [hk] at r0
        -- both take the row
        have h2 : CR b (up_ (up_ M1 0 95 (M1 51 k)) 51 k (M1 51 k + 1)) (up_ (up_ N1 262 k (N1 262 k + 1)) 264 (M1 0 79 - 1) (N1 264 (M1 0 79 - 1) + 1)) (a + 1) := by
          refine CR_or h1 hk1 (by (clear hR hd ih h hS hn hk h0 hr hq ha e top k6 al c a1 nk x1 sx1 q1 sq1 h1 e51 e78 f263 f264 f262 f266 hk1 r0; omega)) (by rw [f266]; exact h0) (by rw [e51]; (clear hR hd ih h hS hn hW hW0 hk h0 hr ha e top k6 c e186 a1 nk x1 sx1 q1 sq1 h1 e51 e79 e78 f263 f264 f262 f266 f186 hk1 r0; omega)) (fun r hr => ?_) (fun i hi => ?_) ?_ (fun i hi => ?_) ?_ (fun r hr => ?_) (fun i hi => ?_) ?_ (fun i hi => ?_) ?_
          · rw [up_ne (by rintro rfl; exact hr (by decide)), up_ne (by rintro rfl; exact hr (by decide))]
          · rw [up_ne (by decide), upo hi]
          · rw [up_ne (by decide), up_at]
          · rw [upo hi, up_ne (by decide)]
          · rw [up_at]
          · rw [up_ne (by rintro rfl; exact hr (by decide)), up_ne (by rintro rfl; exact hr (by decide))]
          · rw [up_ne (by decide), upo hi]
          · rw [up_ne (by decide), up_at]
          · rw [upo hi, up_ne (by decide)]
          · rw [up_at]
        have fx2 : XTd M (up_ (up_ M1 0 95 (M1 51 k)) 51 k (M1 51 k + 1)) := XTd_r (XTd_0 (XTd_c (xsm_XT sx1)) (by decide)) (by decide) (by decide)
        have fq2 : QTd N (up_ (up_ N1 262 k (N1 262 k + 1)) 264 (M1 0 79 - 1) (N1 264 (M1 0 79 - 1) + 1)) := QTd_r (QTd_r (QTd_c (qsm_QT sq1)) (by decide) (by decide)) (by decide) (by decide)
        have toQ : QL N (up_ (up_ N1 262 k (N1 262 k + 1)) 264 (M1 0 79 - 1) (N1 264 (M1 0 79 - 1) + 1)) := fun V Qr Qt hV hW' g => q_ns h hn (by omega) hV hW' (fun _ _ _ => t_404 fun V' hV' hW'' => b_404_0 (Tr_mono _) hV' hW'' _ (by
          rw [e186.1, w32_id (by (clear hR hd ih h hS hn hk h0 hr hq ha e top k6 al c a1 nk x1 sx1 q1 sq1 h1 e51 e78 f263 f264 f262 f266 hk1 r0 h2 fx2 fq2 hV hW' g hV' hW''; omega)) (by (clear hR hd ih h hS hn hk h0 hr hq ha e top k6 al c a1 nk x1 sx1 q1 sq1 h1 e51 e78 f263 f264 f262 f266 hk1 r0 h2 fx2 fq2 hV hW' g hV' hW''; lia)), hk]
          refine ⟨by (clear hR hd ih h hS hn hk h0 hr hq ha e top k6 al c a1 nk x1 sx1 q1 sq1 h1 e51 e78 f263 f264 f262 f266 hk1 r0 h2 fx2 fq2 hV hW' g hV' hW''; omega), k6, ?_⟩
          rw [if_neg (by (clear hR hd ih h hS hn hW hW0 hk h0 hr ha e top k6 c e186 a1 nk x1 sx1 q1 sq1 h1 e51 e79 e78 f263 f264 f262 f266 f186 hk1 r0 h2 fx2 fq2 hV hW' g hV' hW''; omega))]
          refine Ex_le (d := 2) (by decide) q1 _ _ (rv_i (Ex_le (d := 1) (by decide) (c_227 h1.1) _ _ (ri_i ?_)))
          rw [if_pos rfl, f186, e186.1, w32_id (x := M 0 79 - 1) (by omega) (by omega), w32_id (x := N1 262 k + 1) (by rw [f262]; (clear hR hd ih h hS hn hW hW0 hk h0 hr ha e top k6 c e186 a1 nk x1 sx1 q1 sq1 h1 e51 e79 e78 f263 f264 f262 f266 f186 hk1 r0 h2 fx2 fq2 hV hW' g hV' hW''; omega)) (by rw [f262]; (clear hR hd ih h hS hn hW hW0 hk h0 hr ha e top k6 c e186 a1 nk x1 sx1 q1 sq1 h1 e51 e79 e78 f263 f264 f262 f266 f186 hk1 r0 h2 fx2 fq2 hV hW' g hV' hW''; omega)), w32_id (x := N1 264 (M 0 79 - 1) + 1) (by rw [f264]; (clear hR hd ih h hS hn hW hW0 hk h0 hr ha e top k6 c e186 a1 nk x1 sx1 q1 sq1 h1 e51 e79 e78 f263 f264 f262 f266 f186 hk1 h2 fx2 fq2 hV hW' g hV' hW''; omega)) (by rw [f264]; (clear hR hd ih h hS hn hW hW0 hk h0 hr ha e top k6 c e186 a1 nk x1 sx1 q1 sq1 h1 e51 e79 e78 f263 f264 f262 f266 f186 hk1 h2 fx2 fq2 hV hW' g hV' hW''; omega))]
          rw [e79] at g
          exact ⟨k6, k6, by omega, by omega, rv_i g⟩)) (fun z => absurd (by rw [hk]; exact h0) (z c hW0))
        have y79 : (up_ (up_ M1 0 95 (M1 51 k)) 51 k (M1 51 k + 1)) 0 79 = M 0 79 := by rw [up_ne (by decide), upo (by decide)]; exact e79
        have y78 : (up_ (up_ M1 0 95 (M1 51 k)) 51 k (M1 51 k + 1)) 0 78 = M 0 78 := by rw [up_ne (by decide), upo (by decide)]; exact e78
        have y51 : (up_ (up_ M1 0 95 (M1 51 k)) 51 k (M1 51 k + 1)) 51 k = M 51 k + 1 := by rw [up_at, e51]
        have z263 : (up_ (up_ N1 262 k (N1 262 k + 1)) 264 (M1 0 79 - 1) (N1 264 (M1 0 79 - 1) + 1)) 263 = N 263 := by rw [up_ne (by decide), up_ne (by decide)]; exact f263
        have z264 : ∀ j, j ≠ M 0 79 - 1 → (up_ (up_ N1 262 k (N1 262 k + 1)) 264 (M1 0 79 - 1) (N1 264 (M1 0 79 - 1) + 1)) 264 j = N 264 j := fun j hj => by rw [upo (by (clear hR hd ih h hS hn hW hW0 hk h0 hr hq ha e top k6 al c a1 nk x1 sx1 q1 sq1 h1 e51 e78 f263 f264 f262 f266 hk1 r0 h2 fx2 fq2 toQ y78 y51 z263; lia)), up_ne (by decide), f264]
        have z264' : (up_ (up_ N1 262 k (N1 262 k + 1)) 264 (M1 0 79 - 1) (N1 264 (M1 0 79 - 1) + 1)) 264 (M 0 79 - 1) = N 264 (M 0 79 - 1) + 1 := by rw [e79, up_at, f264]
        have z266 : (up_ (up_ N1 262 k (N1 262 k + 1)) 264 (M1 0 79 - 1) (N1 264 (M1 0 79 - 1) + 1)) 266 = N 266 := by rw [up_ne (by decide), up_ne (by decide)]; exact f266
        have hX : ∀ (V : vv_) (Qr : qr_) (Qt : qt_), Cl_ wd0 (Tr_ wd0 pg0 dx) V Qr Qt m_81 → Wk_ V → Tr_ wd0 pg0 dx 77 [.inr (.inr 0)] (up_ (up_ M1 0 95 (M1 51 k)) 51 k (M1 51 k + 1)) (rv_ fun M3 => V 146 [rr 0, ii o, ii k] [] M3) Qt → V 146 [rr 0, ii o, ii k] [] M := fun V Qr Qt hV hW' g => b_81_146 (Tr_mono _) hV hW' _ _ _ (Ex_le (d := 1) (by (clear hR ih h hS hn hk h0 hr hq ha e top k6 al c a1 nk x1 sx1 q1 sq1 h1 e51 e78 f263 f264 f262 f266 hk1 r0 h2 fx2 fq2 toQ y78 y51 z263 z264 z264' z266 hV hW' g; lia)) (x_74t ha e c) _ _ (ri_i (by
          rw [if_neg (by decide)]
          refine ⟨k6, ?_⟩
          rw [if_neg (by (clear hR hd ih h hS hn hW hW0 hk h0 hr ha e top k6 c e186 a1 nk x1 sx1 q1 sq1 h1 e51 e79 e78 f263 f264 f262 f266 f186 hk1 h2 fx2 fq2 toQ y79 y78 z263 z264 z266 hV hW' g; lia))]
          refine Ex_le (d := 2) (by (clear hR ih h hS hn hk h0 hr hq ha e top k6 al c a1 nk x1 sx1 q1 sq1 h1 e51 e78 f263 f264 f262 f266 hk1 r0 h2 fx2 fq2 toQ y78 y51 z263 z264 z264' z266 hV hW' g; lia)) x1 _ _ (rv_i ⟨k6, k6, k6, ?_⟩)
          rw [w32_id (by rw [e51]; (clear hR hd ih h hS hn hW hW0 hk h0 hr ha e top k6 c e186 a1 nk x1 sx1 q1 sq1 h1 e51 e79 e78 f263 f264 f262 f266 f186 hk1 h2 fx2 fq2 toQ y79 y78 z263 z264 z266 hV hW' g; lia)) (by rw [e51]; (clear hR hd ih h hS hn hW hW0 hk h0 hr ha e top k6 c e186 a1 nk x1 sx1 q1 sq1 h1 e51 e79 e78 f263 f264 f262 f266 f186 hk1 h2 fx2 fq2 toQ y79 y78 z263 z264 z266 hV hW' g; lia))]; exact g)))
        generalize (up_ (up_ M1 0 95 (M1 51 k)) 51 k (M1 51 k + 1)) = M2 at *
        generalize (up_ (up_ N1 262 k (N1 262 k + 1)) 264 (M1 0 79 - 1) (N1 264 (M1 0 79 - 1) + 1)) = N2 at *
        have S2 := SGP_d hS fx2 fq2
        rcases hR M2 N2 (a + 1) h2 S2 (by (clear hR hd ih h hS hn hW0 hk h0 hr hq ha e top k6 al c a1 nk x1 sx1 q1 sq1 h1 e51 e78 f263 f264 f262 f266 hk1 r0 fx2 y78 y51 hX fq2 toQ z263 z264 z264' z266 h2 S2; lia)) with ⟨M3, N3, g1, g2, ⟨a3, a31, h3, n3, kp3⟩, fx3, fq3⟩ | ⟨M3, g1, fx3, gb⟩
        · have w3 : M3 0 79 = M 0 79 := by rw [kp3.1.2]; exact y79
          have t3 := kp3.2.1 (M 0 79 - 1) (by (clear hR hd ih h hS hn hk h0 hr hq ha e top k6 al c a1 nk x1 sx1 q1 sq1 h1 e51 e78 f263 f264 f262 f266 hk1 r0 fx2 y78 y51 hX fq2 toQ z263 z264 z264' z266 h2 S2 g1 g2 a31 h3 n3 kp3 fx3 fq3; lia)) (by (clear hR hd ih h hS hn hW hW0 hk h0 hr hq ha e top k6 al c a1 nk x1 sx1 q1 sq1 h1 e51 e78 f263 f264 f262 f266 hk1 r0 fx2 y78 y51 hX fq2 toQ z263 z264 z264' z266 h2 S2 g1 g2 a31 h3 n3 kp3 fx3 fq3 w3; lia))
          have k3 : N3 263 (M3 0 79 - 1) = k := by rw [w3, t3.1, z263]; exact hk
          have o3 : N3 266 k = 0 := by rw [kp3.2.2 k k6.1 (by rw [y78]; rw [hk] at top; exact top.1.2), z266]; exact h0
          have r3 : N3 264 (M3 0 79 - 1) = N 264 (M 0 79 - 1) + 1 := by rw [w3, t3.2, z264']
          have top3 := h3.2.2.2.2.1.2 (M3 0 79 - 1) (by (clear hR hd ih h hS hn hk h0 hr hq ha e top k6 al c a1 nk x1 sx1 q1 sq1 h1 e51 e78 f263 f264 f262 f266 hk1 r0 fx2 y78 y51 hX fq2 toQ z263 z264 z264' z266 h2 S2 g1 g2 a31 h3 n3 kp3 fx3 fq3 t3 k3 o3 r3; lia)) (by (clear hR hd ih h hS hn hW hW0 hk h0 hr hq ha e top k6 al c e186 a1 nk x1 sx1 q1 sq1 h1 e51 e79 e78 f263 f264 f262 f266 f186 hk1 r0 fx2 y79 y78 y51 hX fq2 toQ z263 z264 z264' z266 h2 S2 g1 g2 a31 h3 n3 kp3 fx3 fq3 w3 t3 k3 o3 r3; lia))
          have m3 : M3 51 k = M 51 k + 1 := by
            have := top3.2.2.2.2.1 (by rw [k3]; exact o3)
            rw [k3] at this; (clear hR hd ih h hS hn hW hW0 hk h0 hr ha e top k6 c e186 a1 nk x1 sx1 q1 sq1 h1 e51 e79 e78 f263 f264 f262 f266 f186 hk1 fx2 y79 y78 hX fq2 toQ z263 z264 z266 h2 S2 g1 g2 a31 h3 n3 kp3 fx3 fq3 w3 k3 o3 top3; lia)
          rcases ih M3 N3 a3 h3 (SGP_d S2 fx3 fq3) n3 (by (clear hR hd ih h hS hn hW0 hk h0 hr hq ha e top k6 al c a1 nk x1 sx1 q1 sq1 h1 e51 e78 f263 f264 f262 f266 hk1 r0 fx2 y78 y51 hX fq2 toQ z263 z264 z264' z266 h2 S2 g1 g2 a31 h3 n3 kp3 fx3 fq3 t3 k3 o3 r3 top3 m3; lia)) (by (clear hR hd ih h hS hn hk h0 hr hq ha e top k6 al c a1 nk x1 sx1 q1 sq1 h1 e51 e78 f263 f264 f262 f266 hk1 r0 fx2 y78 y51 hX fq2 toQ z263 z264 z264' z266 h2 S2 g1 g2 a31 h3 n3 kp3 fx3 fq3 t3 k3 o3 r3 top3 m3; lia)) k3 o3 (.inl (by (clear hR hd ih h hS hn hW hW0 hk h0 hr ha e top k6 c e186 a1 nk x1 sx1 q1 sq1 h1 e51 e79 e78 f263 f264 f262 f266 f186 hk1 fx2 y79 y78 hX fq2 toQ z263 z264 z266 h2 S2 g1 g2 a31 h3 n3 kp3 fx3 fq3 w3 k3 o3 top3; lia))) (by (clear hR hd ih h hS hn hW hW0 hk h0 hr ha e top k6 c e186 a1 nk x1 sx1 q1 sq1 h1 e51 e79 e78 f263 f264 f262 f266 f186 hk1 fx2 y79 y78 hX fq2 toQ z263 z264 z266 h2 S2 g1 g2 a31 h3 n3 kp3 fx3 fq3 w3 k3 o3 top3; lia)) with ⟨M', N', gx, gq, ⟨a', aa, hC, kd⟩, fx, fq⟩ | ⟨M', gx, fx, gb⟩
          · refine .inl ⟨M', N', fun V Qr Qt hV hW' g => hX V Qr Qt hV hW' (Ex_le hd g1 _ _ (rv_i (gx V Qr Qt hV hW' g))), RC_tr (RC_tr toQ g2) gq, ⟨a', by (clear hR hd ih h hS hn hW hW0 hk h0 hr hq ha top k6 al c e186 a1 nk x1 sx1 q1 sq1 h1 e51 e79 e78 f263 f264 f262 f266 f186 hk1 r0 fx2 y79 y78 y51 hX fq2 toQ z263 z264 z264' z266 h2 S2 g1 g2 h3 n3 kp3 fx3 fq3 w3 t3 k3 o3 r3 top3 m3 gx gq hC kd fx fq; omega), hC, ⟨by have := kd.1.1; have := kp3.1.1; (clear hR hd ih h hS hn hW hW0 hk h0 hr hq ha e top k6 al c e186 a1 nk x1 sx1 q1 sq1 h1 e51 e79 f263 f264 f262 f266 f186 hk1 r0 fx2 y79 y51 hX fq2 toQ z263 z264 z264' z266 h2 S2 g1 g2 a31 h3 n3 kp3 fx3 fq3 w3 t3 k3 o3 r3 top3 m3 gx gq aa hC kd fx fq; lia), by rw [kd.1.2, w3]⟩, fun j j0 j1 => ?_, fun j j0 j1 => ?_⟩, XTd_tr fx2 (XTd_tr fx3 fx), QTd_tr fq2 (QTd_tr fq3 fq)⟩
            · have u1 := kd.2.1 j j0 (by (clear hR hd ih h hS hn hW hW0 hk h0 hr hq ha e top k6 al c a1 nk x1 sx1 q1 sq1 h1 e51 e78 f263 f264 f262 f266 hk1 r0 fx2 y78 y51 hX fq2 toQ z263 z264 z264' z266 h2 S2 g1 g2 a31 h3 n3 kp3 fx3 fq3 t3 k3 o3 r3 top3 m3 gx gq aa hC kd fx fq j0; lia))
              have u2 := kp3.2.1 j j0 (by (clear hR hd ih h hS hn hW hW0 hk h0 hr hq ha e top k6 al c a1 nk x1 sx1 q1 sq1 h1 e51 e78 f263 f264 f262 f266 hk1 r0 fx2 y78 y51 hX fq2 toQ z263 z264 z264' z266 h2 S2 g1 g2 a31 h3 n3 kp3 fx3 fq3 t3 k3 o3 r3 top3 m3 gx gq aa hC kd fx fq j0 u1; lia))
              rw [u1.1, u1.2, u2.1, u2.2, z263, z264 j (by (clear hR hd ih h hS hn hW hW0 hk h0 hr hq ha e top k6 al c a1 nk x1 sx1 q1 sq1 h1 e51 e78 f263 f264 f262 f266 hk1 r0 fx2 y78 y51 hX fq2 toQ z263 z264 z264' z266 h2 S2 g1 g2 a31 h3 n3 kp3 fx3 fq3 t3 k3 o3 r3 top3 m3 gx gq aa hC kd fx fq j0 u1 u2; lia))]; exact ⟨rfl, rfl⟩
            · rw [kd.2.2 j j0 (by have := kp3.1.1; (clear hR hd ih h hS hn hW hW0 hk h0 hr hq ha e top k6 al c e186 a1 nk x1 sx1 q1 sq1 h1 e51 e79 f263 f264 f262 f266 f186 hk1 r0 fx2 y79 y51 hX fq2 toQ z263 z264 z264' z266 h2 S2 g1 g2 a31 h3 n3 kp3 fx3 fq3 w3 t3 k3 o3 r3 top3 m3 gx gq aa hC kd fx fq j0; omega)), kp3.2.2 j j0 (by (clear hR hd ih h hS hn hW hW0 hk h0 hr hq ha e top k6 al c e186 a1 nk x1 sx1 q1 sq1 h1 e51 e79 f263 f264 f262 f266 f186 hk1 r0 fx2 y79 y51 hX fq2 toQ z263 z264 z264' z266 h2 S2 g1 g2 a31 h3 n3 kp3 fx3 fq3 w3 t3 k3 o3 r3 top3 m3 gx gq aa hC kd fx fq j0; omega)), z266]
          · refine .inr ⟨M', fun V Qr Qt hV hW' g => hX V Qr Qt hV hW' (Ex_le hd g1 _ _ (rv_i (gx V Qr Qt hV hW' g))), XTd_tr fx2 (XTd_tr fx3 fx), fun hb => ?_⟩
            obtain ⟨N', gq, hF, fq⟩ := gb hb
            exact ⟨N', QL_E (RC_tr toQ g2) gq, hF, QTd_tr fq2 (QTd_tr fq3 fq)⟩
        · refine .inr ⟨M3, fun V Qr Qt hV hW' g => hX V Qr Qt hV hW' (Th_le hd g1 _ _ g), XTd_tr fx2 fx3, fun hb => ?_⟩
          obtain ⟨N', gq, hF, fq⟩ := gb hb
          exact ⟨N', QL_E toQ gq, hF, QTd_tr fq2 fq⟩
      · have e12 : a = 1200 := by (clear hR hd ih h hS hn hW hW0 hk h0 hr hq top k6 al c e186; lia)
        refine .inr ⟨bdX M 2 (M 76 a), fun V Qr Qt hV hW' g => b_81_146 (Tr_mono _) hV hW' _ _ _ (Ex_le (d := 1) (by (clear hR ih h hS hn hk h0 hr hq ha e top k6 al c a1 e12 hV hW' g; lia)) (x_74t ha e c) _ _ (ri_i ?_)), XTd_bd XTd_rf, fun hb => ?_⟩
        · rw [if_neg (by decide)]
          refine ⟨k6, ?_⟩
          rw [if_neg (by (clear hR hd ih h hS hn hW hW0 hk h0 hr ha e top k6 c e186 a1 e12 hV hW' g; lia))]
          exact Th_le (d := 2) (by (clear hR ih h hS hn hk h0 hr hq ha e top k6 al c a1 e12 hV hW' g; lia)) (x_73b ha e (.inr ⟨c, e12, rfl⟩)) _ _ g
        · have sp := sp_b (p := M 76 a) (f := 2) (CB_16 h.1 hb) (by decide)
          refine ⟨bf_ N 2 (M 76 a), fun V Qr Qt hV hW' g => q_ns h hn (by (clear hR hd ih h hS hn hW hW0 hk h0 hr hq ha e top k6 al e186 a1 e12 hb sp hV hW' g; lia)) hV hW' (fun _ _ _ => t_404 fun V' hV' hW'' => b_404_0 (Tr_mono _) hV' hW'' _ ?_) (fun z => absurd (by rw [hk]; exact h0) (z c hW0)), FQc_b (CB_16 h.1 hb) (by decide), QTd_bf QTd_rf⟩
          rw [e186.1, w32_id (by (clear hR hd ih h hS hn hk h0 hr hq ha e top k6 al c a1 e12 hb sp hV hW' g hV' hW''; omega)) (by (clear hR hd ih h hS hn hk h0 hr hq ha e top k6 al c a1 e12 hb sp hV hW' g hV' hW''; omega)), hk]
          refine ⟨by omega, k6, ?_⟩
          rw [if_neg (by (clear hR hd ih h hS hn hW hW0 hk h0 hr ha e top k6 c e186 a1 e12 hb sp hV hW' g hV' hW''; omega))]
          refine Ex_le (d := 2) (by decide) (c_230b h.1 hb e12) _ _ (rv_i (Ex_le (d := 1) (by decide) (s_227 sp) _ _ (ri_i ?_)))
          rw [if_neg (by decide)]
          exact rv_i (QEc_s sp V Qr Qt hV hW' g)
    · rcases en_x (dx := dx) (o := o) (by (clear hR ih h hS hn hk h0 hr hq ha e top k6 al c; lia)) h hn hW0 hk (fun _ => ⟨hr.resolve_right c, c⟩) with ⟨M', N', gx, r⟩ | ⟨M', gx, r⟩
      · refine .inl ⟨M', N', fun V Qr Qt hV hW' g => b_81_146 (Tr_mono _) hV hW' _ _ _ (Ex_le (d := 1) (by (clear hR ih h hS hn hk h0 hr hq ha e top k6 al c gx hV hW' g; lia)) (x_74f ha e c) _ _ (ri_i ?_)), r⟩
        rw [if_pos rfl]; exact gx V Qr Qt hV hW' g
      · refine .inr ⟨M', fun V Qr Qt hV hW' g => b_81_146 (Tr_mono _) hV hW' _ _ _ (Ex_le (d := 1) (by (clear hR ih h hS hn hk h0 hr hq ha e top k6 al c gx r hV hW' g; lia)) (x_74f ha e c) _ _ (ri_i ?_)), r⟩
        rw [if_pos rfl]; exact gx V Qr Qt hV hW' g
end ALc
end T431_al
