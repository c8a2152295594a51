section T317_cj
/-! conjunctivity of the machine -/
def Cj_ (D : ca_) : Prop := ∀ (ι : Type) (_ : ι) (a : Nat) (as : List pv_) (M : mm_) (Qr : ι → qr_) (Qt : ι → qt_), (∀ j, D a as M (Qr j) (Qt j)) → D a as M (fun vs M => ∀ j, Qr j vs M) (fun r M => ∀ j, Qt j r M)
section CJ
variable {w : wd_} {D : ca_} {ι : Type} {V : ι → vv_} {Qr : ι → qr_} {Qt : ι → qt_}
theorem sw_cj {K : ι → Nat → Prop} {x : Int} : ∀ {tb : List (Int × Nat)} {d : Nat}, (∀ j, sw_ (K j) x tb d) → sw_ (fun q => ∀ j, K j q) x tb d
  | [], d, h => h
  | k :: t, d, h => by
    unfold sw_ at h ⊢
    by_cases e : x = k.1
    · rw [if_pos e]; exact fun j => by have := h j; rw [if_pos e] at this; exact this
    · rw [if_neg e]; exact sw_cj fun j => by have := h j; rw [if_neg e] at this; exact this
theorem th_cj (i0 : ι) {hs : List (Nat × Nat × Nat)} {pc : Nat} {ls : lo_} {r : Nat} {M : mm_} (h : ∀ j, th_ (V j) (Qt j) hs pc ls r M) : th_ (fun pc ls st M => ∀ j, V j pc ls st M) (fun r M => ∀ j, Qt j r M) hs pc ls r M := by
  unfold th_ at h ⊢
  cases e : hd_ hs pc with
  | none => rw [e] at h; exact h
  | some q => rw [e] at h; exact ⟨(h i0).1, fun j => (h j).2⟩
theorem rk_cj (i0 : ι) {k pc : Nat} {ls : lo_} {st : List pv_} {vs : List pv_} {M : mm_} (h : ∀ j, rk_ (V j) k pc ls st vs M) : rk_ (fun pc ls st M => ∀ j, V j pc ls st M) k pc ls st vs M := by
  unfold rk_ at h ⊢
  split at h
  · exact ⟨(h i0).1, fun j => (h j).2⟩
  · obtain ⟨x, h1, _⟩ := h i0
    refine ⟨x, h1, fun j => ?_⟩
    obtain ⟨y, h3, h4⟩ := h j
    rw [h1] at h3; injection h3 with h3 _; injection h3 with h3; injection h3 with h3; rw [h3]; exact h4
  · obtain ⟨x, h1, _⟩ := h i0
    refine ⟨x, h1, fun j => ?_⟩
    obtain ⟨y, h3, h4⟩ := h j
    rw [h1] at h3; injection h3 with h3 _; injection h3 with h3; injection h3 with h3; rw [h3]; exact h4
  · obtain ⟨x, h1, _⟩ := h i0
    refine ⟨x, h1, fun j => ?_⟩
    obtain ⟨y, h3, h4⟩ := h j
    rw [h1] at h3; injection h3 with h3 _; injection h3 with h3; rw [h3]; exact h4
theorem cl_cj (i0 : ι) (hD : Cj_ D) (hM : Mo_ D) {hs : List (Nat × Nat × Nat)} {pc a n k : Nat} {ls : lo_} {st : List pv_} {M : mm_} (h : ∀ j, cl_ D (V j) (Qt j) hs pc a n k ls st M) : cl_ D (fun pc ls st M => ∀ j, V j pc ls st M) (fun r M => ∀ j, Qt j r M) hs pc a n k ls st M := by
  unfold cl_ at h ⊢
  by_cases e : n ≤ st.length ∧ st.length ≤ n + 8
  · rw [if_pos e]
    exact hM _ _ _ _ _ _ _ (fun vs M h => rk_cj i0 h) (fun r M h => th_cj i0 h) (hD ι i0 _ _ _ _ _ fun j => by have := h j; rw [if_pos e] at this; exact this)
  · have := h i0; rw [if_neg e] at this; exact this.elim
set_option maxHeartbeats 4000000 in
theorem ex_cj (i0 : ι) (hD : Cj_ D) (hM : Mo_ D) {m : md_} {pc len a : Nat} {i : Instr} {b : Int} {tb : List (Int × Nat)} {ls : lo_} {st : List pv_} {M : mm_} (h : ∀ j, ex_ w D (V j) (Qr j) (Qt j) m pc i len a b tb ls st M) : ex_ w D (fun pc ls st M => ∀ j, V j pc ls st M) (fun vs M => ∀ j, Qr j vs M) (fun r M => ∀ j, Qt j r M) m pc i len a b tb ls st M := by
  revert h
  cases i <;> simp only [ex_]
  all_goals first
    | exact fun h => h
    | exact fun h => (h i0).elim
    | exact fun h => cl_cj i0 hD hM h
    | skip
  all_goals (repeat' split)
  all_goals first
    | exact fun h => h
    | exact fun h => (h i0).elim
    | exact fun h => ⟨(h i0).1, fun j => (h j).2⟩
    | exact fun h q j => (h j) q
    | exact fun h => ⟨(h i0).1, fun q j => (h j).2 q⟩
    | exact fun h => th_cj i0 h
    | exact fun h => sw_cj h
    | exact fun h => cl_cj i0 hD hM h
    | skip
theorem st_cj (i0 : ι) (hD : Cj_ D) (hM : Mo_ D) {m : md_} {pc : Nat} {ls : lo_} {st : List pv_} {M : mm_} (h : ∀ j, st_ w D (V j) (Qr j) (Qt j) m pc ls st M) : st_ w D (fun pc ls st M => ∀ j, V j pc ls st M) (fun vs M => ∀ j, Qr j vs M) (fun r M => ∀ j, Qt j r M) m pc ls st M := by
  unfold st_ at h ⊢
  cases e : lk_ m.1 pc with
  | none => rw [e] at h; exact (h i0).elim
  | some q => rw [e] at h; exact ex_cj i0 hD hM h
end CJ
/-! fewer locals known -/
def Up_ (V : vv_) : vv_ := fun pc tl st M => ∃ ls, lle_ ls tl ∧ V pc ls st M
def cr_ (tl : lo_) (k : Nat) : lo_ := if k = 0 then tl else if isl_ tl[k - 1]? then tl.set (k - 1) none else tl
def fg_ (i : Instr) (tl : lo_) : lo_ := match i with
  | .istore k => cr_ tl k
  | .istore_n k => cr_ tl k
  | .lstore k => cr_ tl k
  | .lstore_n k => cr_ tl k
  | .astore k => cr_ tl k
  | .astore_n k => cr_ tl k
  | .iinc k _ => cr_ tl k
  | _ => tl
section UP
variable {w : wd_} {D : ca_} {V : vv_} {Qr : qr_} {Qt : qt_} {ls tl ls' tl' : lo_}
theorem lle_rf : lle_ ls ls := ⟨rfl, fun _ _ h => h⟩
theorem lle_tr {l2 : lo_} (h : lle_ ls tl) (g : lle_ tl l2) : lle_ ls l2 := ⟨h.1.trans g.1, fun k v e => g.2 k v (h.2 k v e)⟩
theorem lle_no {k : Nat} : lle_ (ls.set k none) ls := ⟨List.length_set .., fun j v hj => by
  rw [List.getElem?_set] at hj
  split at hj
  · split at hj <;> cases hj
  · exact hj⟩
theorem lle_set {k : Nat} {v : Option pv_} (h : lle_ ls tl) : lle_ (ls.set k v) (tl.set k v) := ⟨by rw [List.length_set, List.length_set]; exact h.1, fun j u hj => by
  rw [List.getElem?_set] at hj ⊢
  rw [← h.1]
  split at hj
  · rename_i e; rw [if_pos e]; exact hj
  · rename_i e; rw [if_neg e]; exact h.2 _ _ hj⟩
theorem cr_le {k : Nat} : lle_ (cr_ tl k) tl := by
  unfold cr_
  split
  · exact lle_rf
  · split
    · exact lle_no
    · exact lle_rf
theorem fg_le {i : Instr} : lle_ (fg_ i tl) tl := by
  cases i <;> first | exact cr_le | exact lle_rf
theorem ld_le (h : lle_ ls tl) {k : Nat} {v : pv_} (e : ld_ ls k = some v) : ld_ tl k = some v := by
  unfold ld_ at e ⊢
  split at e
  · rename_i u hu
    rw [h.2 _ _ hu]; exact e
  · cases e
theorem isl_le (h : lle_ ls tl) {k : Nat} (e : isl_ ls[k]? = true) : isl_ tl[k]? = true := by
  unfold isl_ at e
  split at e
  · rename_i x hx
    rw [h.2 _ _ hx]; rfl
  · cases e
theorem le_cr (h : lle_ ls tl) {k : Nat} (e : (k == 0 || !isl_ ls[k - 1]?) = true) : lle_ ls (cr_ tl k) := by
  unfold cr_
  split
  · exact h
  · rename_i k0
    split
    · rename_i hl
      refine ⟨by rw [List.length_set]; exact h.1, fun j v hj => ?_⟩
      rw [List.getElem?_set]
      split
      · rename_i ej
        exfalso
        have h1 := h.2 _ _ hj
        rw [← ej] at h1 hj
        rw [h1] at hl
        rw [hj] at e
        have k0' : (k == 0) = false := by simp [k0]
        rw [k0', hl] at e
        exact absurd e (by decide)
      · exact h.2 _ _ hj
    · exact h
theorem cr_ok {k : Nat} : (k == 0 || !isl_ (cr_ tl k)[k - 1]?) = true := by
  by_cases k0 : k = 0
  · simp [k0]
  · have : isl_ (cr_ tl k)[k - 1]? = false := by
      unfold cr_
      rw [if_neg k0]
      split
      · rw [List.getElem?_set]
        rw [if_pos rfl]
        split <;> rfl
      · rename_i h; exact (Bool.not_eq_true _).mp h
    rw [this]; simp
theorem cr_len {k : Nat} : (cr_ tl k).length = tl.length := cr_le.1
theorem ok1_up (h : lle_ ls tl) {k : Nat} (e : ok1_ ls k = true) : ok1_ (cr_ tl k) k = true ∧ lle_ ls (cr_ tl k) := by
  unfold ok1_ at e ⊢
  rw [Bool.and_eq_true] at e
  exact ⟨by rw [cr_ok, cr_len, ← h.1, e.1]; rfl, le_cr h e.2⟩
theorem ok2_up (h : lle_ ls tl) {k : Nat} (e : ok2_ ls k = true) : ok2_ (cr_ tl k) k = true ∧ lle_ ls (cr_ tl k) := by
  unfold ok2_ at e ⊢
  rw [Bool.and_eq_true] at e
  exact ⟨by rw [cr_ok, cr_len, ← h.1, e.1]; rfl, le_cr h e.2⟩
theorem th_up (hle : lle_ ls tl) {hs : List (Nat × Nat × Nat)} {pc : Nat} {r : Nat} {M : mm_} (h : th_ V Qt hs pc ls r M) : th_ (Up_ V) Qt hs pc tl r M := by
  unfold th_ at h ⊢
  split at h
  · exact ⟨h.1, ls, hle, h.2⟩
  · exact h
theorem rk_up (hle : lle_ ls tl) {k pc : Nat} {st : List pv_} {vs : List pv_} {M : mm_} (h : rk_ V k pc ls st vs M) : rk_ (Up_ V) k pc tl st vs M := by
  unfold rk_ at h ⊢
  split at h
  · exact ⟨h.1, ls, hle, h.2⟩
  · obtain ⟨x, h1, h2⟩ := h; exact ⟨x, h1, ls, hle, h2⟩
  · obtain ⟨x, h1, h2⟩ := h; exact ⟨x, h1, ls, hle, h2⟩
  · obtain ⟨x, h1, h2⟩ := h; exact ⟨x, h1, ls, hle, h2⟩
theorem cl_up (hM : Mo_ D) (hle : lle_ ls tl) {hs : List (Nat × Nat × Nat)} {pc a n k : Nat} {st : List pv_} {M : mm_} (h : cl_ D V Qt hs pc a n k ls st M) : cl_ D (Up_ V) Qt hs pc a n k tl st M := by
  unfold cl_ at h ⊢
  split at h
  · rename_i e9
    rw [if_pos e9]
    exact hM _ _ _ _ _ _ _ (fun vs M h => rk_up hle h) (fun r M h => th_up hle h) h
  · exact h.elim
set_option maxHeartbeats 4000000 in
theorem ex_up (hM : Mo_ D) (hle : lle_ ls tl) {m : md_} {pc len a : Nat} {i : Instr} {b : Int} {tb : List (Int × Nat)} {st : List pv_} {M : mm_} {t2 : lo_} (htl : t2 = fg_ i tl) (h : ex_ w D V Qr Qt m pc i len a b tb ls st M) : ex_ w D (Up_ V) Qr Qt m pc i len a b tb t2 st M := by
  have g : ∀ pc st M, V pc ls st M → Up_ V pc tl st M := fun _ _ _ h => ⟨ls, hle, h⟩
  revert h
  cases i <;> simp only [ex_] <;> simp only [fg_] at htl <;> subst htl
  case iload k => 
    intro h; split at h
    · rename_i e; rw [ld_le hle e]; exact g _ _ _ h
    · exact h.elim
  case iload_n k => 
    intro h; split at h
    · rename_i e; rw [ld_le hle e]; exact g _ _ _ h
    · exact h.elim
  case lload k => 
    intro h; split at h
    · rename_i e; rw [ld_le hle e]; exact g _ _ _ h
    · exact h.elim
  case lload_n k => 
    intro h; split at h
    · rename_i e; rw [ld_le hle e]; exact g _ _ _ h
    · exact h.elim
  case aload k => 
    intro h; split at h
    · rename_i e; rw [ld_le hle e]
      dsimp only
      split at h
      · exact h.elim
      · rename_i c; rw [if_neg c]; exact g _ _ _ h
    · exact h.elim
  case aload_n k => 
    intro h; split at h
    · rename_i e; rw [ld_le hle e]
      dsimp only
      split at h
      · exact h.elim
      · rename_i c; rw [if_neg c]; exact g _ _ _ h
    · exact h.elim
  case istore k =>
    intro h; split at h
    · split at h
      · rename_i e; obtain ⟨o1, o2⟩ := ok1_up hle e; rw [if_pos o1]; exact ⟨_, lle_set o2, h⟩
      · exact h.elim
    · exact h.elim
  case istore_n k =>
    intro h; split at h
    · split at h
      · rename_i e; obtain ⟨o1, o2⟩ := ok1_up hle e; rw [if_pos o1]; exact ⟨_, lle_set o2, h⟩
      · exact h.elim
    · exact h.elim
  case lstore k =>
    intro h; split at h
    · split at h
      · rename_i e; obtain ⟨o1, o2⟩ := ok2_up hle e; rw [if_pos o1]; exact ⟨_, lle_set (lle_set o2), h⟩
      · exact h.elim
    · exact h.elim
  case lstore_n k =>
    intro h; split at h
    · split at h
      · rename_i e; obtain ⟨o1, o2⟩ := ok2_up hle e; rw [if_pos o1]; exact ⟨_, lle_set (lle_set o2), h⟩
      · exact h.elim
    · exact h.elim
  case astore k =>
    intro h; split at h
    · split at h
      · rename_i e; rw [Bool.and_eq_true] at e; obtain ⟨o1, o2⟩ := ok1_up hle e.1; rw [if_pos (by rw [o1, e.2]; rfl)]; exact ⟨_, lle_set o2, h⟩
      · exact h.elim
    · exact h.elim
  case astore_n k =>
    intro h; split at h
    · split at h
      · rename_i e; rw [Bool.and_eq_true] at e; obtain ⟨o1, o2⟩ := ok1_up hle e.1; rw [if_pos (by rw [o1, e.2]; rfl)]; exact ⟨_, lle_set o2, h⟩
      · exact h.elim
    · exact h.elim
  case iinc k c =>
    intro h; split at h
    · rename_i x el
      split at h
      · rename_i e; obtain ⟨o1, o2⟩ := ok1_up hle e; rw [ld_le o2 el]; dsimp only; rw [if_pos o1]; exact ⟨_, lle_set o2, h⟩
      · exact h.elim
    · exact h.elim
  all_goals first
    | exact g _ _ _
    | exact fun h => h.elim
    | exact fun h => cl_up hM hle h
    | skip
  all_goals (repeat' split)
  all_goals first
    | exact fun h => h.elim
    | exact g _ _ _
    | exact fun h => ⟨h.1, g _ _ _ h.2⟩
    | exact fun h q => g _ _ _ (h q)
    | exact fun h => ⟨h.1, fun q => g _ _ _ (h.2 q)⟩
    | exact fun h => h
    | exact fun h => th_up hle h
    | exact fun h => sw_mono (fun q h => g _ _ _ h) h
    | exact fun h => cl_up hM hle h
    | skip
theorem st_up (hM : Mo_ D) (hle : lle_ ls tl) {m : md_} {pc : Nat} {st : List pv_} {M : mm_} {e : Instr × Nat × Nat × Int × List (Int × Nat)} (he : lk_ m.1 pc = some e) (h : st_ w D V Qr Qt m pc ls st M) : st_ w D (Up_ V) Qr Qt m pc (fg_ e.1 tl) st M := by
  unfold st_ at h ⊢
  rw [he] at h ⊢
  exact ex_up hM hle rfl h
end UP
/-- the least closed predicate -/
def Ls_ (w : wd_) (D : ca_) (Qr : qr_) (Qt : qt_) (m : md_) : vv_ := fun pc ls st M => ∀ V : vv_, Cl_ w D V Qr Qt m → Wk_ V → V pc ls st M
section LSz
variable {w : wd_} {D : ca_} {m : md_}
theorem Ls_cl (hM : Mo_ D) {Qr : qr_} {Qt : qt_} : Cl_ w D (Ls_ w D Qr Qt m) Qr Qt m := fun pc ls st M h V hV hW => hV pc ls st M (st_mono hM (fun _ _ _ _ g => g V hV hW) (fun _ _ q => q) (fun _ _ q => q) h)
theorem Ls_wk {Qr : qr_} {Qt : qt_} : Wk_ (Ls_ w D Qr Qt m) := fun pc ls ls' st M hl h V hV hW => hW pc ls ls' st M hl (h V hV hW)
theorem Ls_inv (hM : Mo_ D) {Qr : qr_} {Qt : qt_} {pc : Nat} {ls : lo_} {st : List pv_} {M : mm_} (h : Ls_ w D Qr Qt m pc ls st M) : ∃ ls', lle_ ls' ls ∧ st_ w D (Ls_ w D Qr Qt m) Qr Qt m pc ls' st M := by
  have := h (fun pc ls st M => Ls_ w D Qr Qt m pc ls st M ∧ ∃ ls', lle_ ls' ls ∧ st_ w D (Ls_ w D Qr Qt m) Qr Qt m pc ls' st M) (fun pc ls st M h => ?_) (fun pc ls ls' st M hl h => ?_)
  · exact this.2
  · have g := st_mono hM (V2 := Ls_ w D Qr Qt m) (fun _ _ _ _ g => g.1) (fun _ _ q => q) (fun _ _ q => q) h
    exact ⟨Ls_cl hM pc ls st M g, ls, lle_rf, g⟩
  · obtain ⟨h1, l2, h2, h3⟩ := h
    exact ⟨Ls_wk pc ls ls' st M hl h1, l2, lle_tr h2 hl, h3⟩
theorem Ls_cj {ι : Type} (i0 : ι) (hC : Cj_ D) (hM : Mo_ D) {Qr : ι → qr_} {Qt : ι → qt_} {pc : Nat} {ls : lo_} {st : List pv_} {M : mm_} (h : ∀ j, Ls_ w D (Qr j) (Qt j) m pc ls st M) : Ls_ w D (fun vs M => ∀ j, Qr j vs M) (fun r M => ∀ j, Qt j r M) m pc ls st M := by
  have main := h i0 (fun pc ls st M => ∀ tl, lle_ ls tl → (∀ j, Up_ (Ls_ w D (Qr j) (Qt j) m) pc tl st M) → Ls_ w D (fun vs M => ∀ j, Qr j vs M) (fun r M => ∀ j, Qt j r M) m pc tl st M) (fun pc ls st M hs tl hl hj => ?_) (fun pc ls ls' st M hl hw tl ht hj => hw tl (lle_tr hl ht) hj)
  · exact main ls lle_rf (fun j => ⟨ls, lle_rf, h j⟩)
  · cases he : lk_ m.1 pc with
    | none => unfold st_ at hs; rw [he] at hs; exact hs.elim
    | some e =>
      have a0 := st_up hM hl he hs
      have aj : ∀ j, st_ w D (Up_ (Ls_ w D (Qr j) (Qt j) m)) (Qr j) (Qt j) m pc (fg_ e.1 tl) st M := fun j => by
        obtain ⟨l1, h1, h2⟩ := hj j
        obtain ⟨l2, h3, h4⟩ := Ls_inv hM h2
        exact st_up hM (lle_tr h3 h1) he h4
      refine Ls_wk pc tl (fg_ e.1 tl) st M fg_le (Ls_cl hM _ _ _ _ ?_)
      have c := st_cj (ι := Option ι) none hC hM (w := w) (m := m) (pc := pc) (ls := fg_ e.1 tl) (st := st) (M := M) (V := fun o => match o with | none => Up_ _ | some j => Up_ (Ls_ w D (Qr j) (Qt j) m)) (Qr := fun o => match o with | none => Qr i0 | some j => Qr j) (Qt := fun o => match o with | none => Qt i0 | some j => Qt j) (fun o => match o with | none => a0 | some j => aj j)
      refine st_mono hM (fun pc' tl' st' M' g => ?_) (fun vs M g j => g (some j)) (fun r M g j => g (some j)) c
      obtain ⟨l3, h5, h6⟩ := g none
      exact h6 tl' h5 (fun j => g (some j))
theorem Tr_cj {P : pg_} : ∀ d, Cj_ (Tr_ w P d)
  | 0 => fun ι i0 _ _ _ _ _ h => (h i0).elim
  | d + 1 => fun ι i0 a as M Qr Qt h => ⟨(h i0).1, Ls_cj i0 (Tr_cj d) (Tr_mono d) fun j => (h j).2⟩
/-- the outcome: whatever holds behind every run -/
theorem Tr_sp {P : pg_} {d n : Nat} {as : List pv_} {M : mm_} {Qr : qr_} {Qt : qt_} (h : Tr_ w P d n as M Qr Qt) : Tr_ w P d n as M (fun vs M' => Qr vs M' ∧ ∀ (K : qr_) (T : qt_), Tr_ w P d n as M K T → K vs M') (fun r M' => Qt r M' ∧ ∀ (K : qr_) (T : qt_), Tr_ w P d n as M K T → T r M') := by
  have c := Tr_cj (w := w) (P := P) d {q : qr_ × qt_ // Tr_ w P d n as M q.1 q.2} ⟨(Qr, Qt), h⟩ n as M (fun q => q.1.1) (fun q => q.1.2) (fun q => q.2)
  exact Tr_mono d _ _ _ _ _ _ _ (fun vs M g => ⟨g ⟨(Qr, Qt), h⟩, fun K T hk => g ⟨(K, T), hk⟩⟩) (fun r M g => ⟨g ⟨(Qr, Qt), h⟩, fun K T hk => g ⟨(K, T), hk⟩⟩) c
end LSz
end T317_cj
section T318_pj
/-! reads | parse: parts of the join -/
/-- routes behind a clean parse -/
def RT2 (M N : mm_) (r : Int) : Prop := (M 114 (2 * r) = (if N 158 r = 0 then -2 else tpl N (N 158 r)) ∧ N 160 r = (if N 158 r = 0 then -1 else tpl N (N 158 r))) ∧ (M 114 (2 * r + 1) = (if N 159 r = 0 then -2 else tpl N (N 159 r)) ∧ N 161 r = (if N 159 r = 0 then -1 else tpl N (N 159 r))) ∧ (M 119 r = N 164 r ∧ 0 ≤ N 164 r ∧ N 164 r < 1048576)
  ∧ ((M 117 r = 1 ∧ M 115 r = N 162 r ∧ M 116 r = N 163 r ∧ (0 ≤ N 162 r ∧ N 162 r ≤ 200) ∧ (0 ≤ N 163 r ∧ N 163 r ≤ 200)) ∨ (M 117 r = 0 ∧ M 115 r = 0 ∧ M 116 r = 0 ∧ N 162 r = -1 ∧ N 163 r = -1 ∧ M 118 r = 0)) ∧ M 118 r = N 166 r ∧ (N 166 r = 0 ∨ N 166 r = 1)
theorem nm_n [ig : Inhabited gh_] {i x : Nat} {L : List Nat} (h : i ∉ L) (hx : x ∈ L) : i ≠ x := fun e => h (by rw [e]; exact hx)
section PJa
variable {F a ns nr np : Int} {M N M2 N2 N1 : mm_}
theorem SYG_c [ig : Inhabited gh_] (hx : ∀ k : Nat, k ∉ [1, 114, 115, 116, 117, 118, 119] → M2 k = M k) (hq : ∀ k : Nat, k ∉ [6, 160, 161, 164] → N2 k = N k) : ∀ (n : Nat) (a ns nr np : Int), SYG M N n a ns nr np → SYG M2 N2 n a ns nr np
  | 0, a, ns, nr, np, h => by
    have h' : M 70 a = 102 ∧ ns = M 5 0 ∧ nr = M 5 1 ∧ np = M 5 2 := h
    show M2 70 a = 102 ∧ ns = M2 5 0 ∧ nr = M2 5 1 ∧ np = M2 5 2
    rw [hx 70 (by decide), hx 5 (by decide)]; exact h'
  | n + 1, a, ns, nr, np, h => by
    have ty : TYS M N M2 N2 np := TYS_e (fun k hk => hx k (fun e => by simp only [List.mem_cons, List.not_mem_nil, or_false] at hk e; omega)) (fun k hk => hq k (fun e => by simp only [List.mem_cons, List.not_mem_nil, or_false] at hk e; omega))
    have tsg : TSG M2 = TSG M := by unfold TSG; rw [hx 5 (by decide), hx 56 (by decide)]
    have e70 : M2 70 = M 70 := hx 70 (by decide)
    have e73 : M2 73 = M 73 := hx 73 (by decide)
    rcases h with ⟨h0, a', ns', h1, h2⟩ | ⟨h0, m, h1, ⟨h2, h3, h4⟩, h5⟩ | ⟨h0, a', h1, ⟨h2, ah, h3, h4⟩, h5⟩
    · exact .inl ⟨by rw [e70]; exact h0, a', ns', by rw [e70, hx 113 (by decide), hx 112 (by decide), tsg]; exact h1, SYG_c hx hq n _ _ _ _ h2⟩
    · exact .inr (.inl ⟨by rw [e70]; exact h0, m, by rw [e70, e73]; exact h1, ⟨by rw [hx 5 (by decide)]; exact h2, by rw [hx 57 (by decide)]; exact h3, by rw [hx 55 (by decide)]; exact h4⟩, by rw [e70]; exact SYG_c hx hq n _ _ _ _ h5⟩)
    · exact .inr (.inr ⟨by rw [e70]; exact h0, a', by rw [e70, e73, ty.1.1, ty.1.2, ty.2.1.1, ty.2.1.2, ty.2.2.1.1, ty.2.2.2]; exact h1, ⟨by rw [hx 5 (by decide)]; exact h2, ah, by rw [e70, e73, ty.1.2, ty.2.1.1]; exact h3, fun u hu => h4 u ((DCL_c (hx _ (by decide)) (hx _ (by decide)) (hx _ (by decide)) (hx _ (by decide))).1 hu)⟩, SYG_c hx hq n _ _ _ _ h5⟩)
theorem G1A_c [ig : Inhabited gh_] (hx : ∀ k : Nat, k ∉ [1, 114, 115, 116, 117, 118, 119] → M2 k = M k) (h151 : N2 151 = N 151) {F' : Int} (g : G1A F F' M N np) : G1A F F' M2 N2 np := by
  unfold G1A GDU DUN DUM GLM DCL at g ⊢
  rw [hx 5 (by decide), hx 56 (by decide), hx 57 (by decide), hx 58 (by decide), hx 71 (by decide), hx 60 (by decide), hx 61 (by decide), hx 62 (by decide), hx 124 (by decide), hx 126 (by decide), hx 128 (by decide), h151]
  exact g
/-- pass 2 has noted whatever pass 1 noted -/
theorem G1_fin [ig : Inhabited gh_] (gA : G1A 1000000 F M N (M 5 2)) (gR : G1R M N N1 N2 0 (M 5 0) 0 (M 5 1) 0 (M 5 2)) (hk : vk_ (N2 6 13) (N2 6 14)) : kk_ (N2 6 13) (N2 6 14) ≤ F := by
  obtain ⟨_, g1, g2, g3, g4⟩ := gR
  rcases gA with z | ⟨u, v, ⟨z1, z2, z3⟩, z4, z5⟩ | ⟨T, hT, z⟩
  · rw [z]; exact kk_le hk
  · have td : TDW M N v := ⟨u, z1, z3, z4⟩
    rw [z5]
    rcases z2 with ⟨k, hk, e⟩ | ⟨k, hk, e⟩ | ⟨k, hk, e⟩
    · have := g1 k hk.1 hk.2 (by rw [e]; exact td); rw [e] at this; exact this
    · have := g2 k hk.1 hk.2 (by rw [e]; exact td); rw [e] at this; exact this
    · have := g3 k hk.1 hk.2 (by rw [e]; exact td); rw [e] at this; exact this
  · exact g4 T hT.1 hT.2 F z
theorem NR_eq [ig : Inhabited gh_] (h : NR F M N) (hk : kk_ (N 6 13) (N 6 14) ≤ F) : M 1 4 = N 6 13 ∧ (M 1 4 ≠ 0 → M 1 5 = N 6 14) := by
  obtain ⟨n1, n2, n3, _⟩ := h
  have e : kk_ (M 1 4) (M 1 5) = kk_ (N 6 13) (N 6 14) := by (clear n1 n2; lia)
  unfold kk_ vk_ at *
  by_cases c1 : M 1 4 = 0
  · rw [if_pos c1] at e
    by_cases c2 : N 6 13 = 0
    · exact ⟨by omega, fun h => absurd c1 h⟩
    · rw [if_neg c2] at e; (clear hk n1; lia)
  · rw [if_neg c1] at e
    by_cases c2 : N 6 13 = 0
    · rw [if_pos c2] at e; (clear hk; lia)
    · rw [if_neg c2] at e; (clear hk n3; lia)
theorem FIX_rf [ig : Inhabited gh_] : FIX M N M N := ⟨fun _ _ => rfl, ⟨rfl, rfl, rfl⟩, fun _ _ => rfl, ⟨rfl, rfl, rfl⟩, fun T _ _ => TYS_e (fun _ _ => rfl) (fun _ _ => rfl)⟩
/-- a route's rows: X filled, Q resolved -/
theorem RT2_of [ig : Inhabited gh_] {r : Int} (hT : Tks M N) (h : RRW M N r) (hg : sgl9 M N) (h70 : M2 70 = M 70) (h73 : M2 73 = M 73) (hX : RTX M2 N r (M 55 r)) (hq : ∀ k : Nat, k ∈ [158, 159, 162, 163, 166] → N2 k = N k) (htp : tpl N2 = tpl N) (m : Nat) (hm : LST (M 70) m (dle (M 70) (M 55 r + 5) + 1)) (h164 : N2 164 r = lsv N m (N 165 r) 0)
    (h160 : N2 160 r = (if N 158 r = 0 then -1 else tpl N (N 158 r))) (h161 : N2 161 r = (if N 159 r = 0 then -1 else tpl N (N 159 r))) : RT2 M2 N2 r := by
  obtain ⟨s1, s2, s3, s4, s5⟩ := RT_res hT h hg h70 hX (hq 158 (by decide)) (hq 159 (by decide)) htp m hm h164
  obtain ⟨_, ⟨m', hm'⟩, _, ⟨q2, q3, q4⟩, q5⟩ := h
  obtain ⟨_, ⟨x1, x2, x3, x4⟩, _⟩ := hX
  rw [h70, h73] at x1 x2
  rw [h70] at x3 x4
  have dl := hm'.2.2.2.2.1
  generalize M 55 r + 5 = e at *
  refine ⟨⟨s1, by rw [h160, htp, hq 158 (by decide)]⟩, ⟨s2, by rw [h161, htp, hq 159 (by decide)]⟩, ⟨s3, s4, s5⟩, ?_, ?_, ?_⟩
  · rw [hq 162 (by decide), hq 163 (by decide), q2, q3, x1, x2, x3, x4]
    unfold dlb dlt dmt dl7 dl8 drw
    by_cases c : M 70 e = 24
    · have d := dl c
      rw [if_pos c, if_pos c, if_pos c, if_pos c, if_pos c]
      refine .inl ⟨rfl, rfl, rfl, by (clear hT hg h70 h73 hq htp h164 h160 h161 s1 s2 s3 s4 s5 hm' hm q5 q2 q3 q4 x1 x2 x3 x4 dl c; omega), ?_⟩
      split
      · rename_i c2; have := d.2 c2; (clear hT hg h70 h73 hq htp h164 h160 h161 s1 s2 s3 s4 s5 hm' hm q5 q2 q3 q4 x1 x2 x3 x4 dl c d c2; omega)
      · omega
    · rw [if_neg c, if_neg c, if_neg c, if_neg c, if_neg c, if_neg c]
      exact .inr ⟨rfl, rfl, rfl, rfl, rfl, rfl⟩
  · rw [hq 166 (by decide), q4, x4]
  · rw [hq 166 (by decide), q4]
    unfold drw
    split
    · split
      · exact .inr rfl
      · exact .inl rfl
    · exact .inl rfl
theorem RTE_gd [ig : Inhabited gh_] {e : Int} {m : Nat} (g0 : gd_ M e) (k0 : M 70 e = 1) (h : RTE (M 70) (M 73) e m) : gd_ M (dle (M 70) (e + 5) + 1) := by
  obtain ⟨ho, o1, ⟨k3, h13⟩, o4, o5, ⟨k6, h16⟩, _⟩ := h
  have n25 : ∀ t, sdO (M 70) t → M 70 t ≠ 102 ∧ M 70 t ≠ 103 := fun t ht => by rcases ht.1 with c | c <;> omega
  have g1 := gd_s g0 (by omega) (by rw [k0]; decide)
  have g2 := gd_s g1 ho.2 (by rw [ho.1]; decide)
  rw [show e + 1 + 1 = e + 2 by omega] at g2
  have g3 := gd_s g2 (by omega) (n25 _ o1)
  rw [show e + 2 + 1 = e + 3 by omega] at g3
  have g4 := gd_s g3 h13 (by rw [k3]; decide)
  rw [show e + 3 + 1 = e + 4 by omega] at g4
  have g5 := gd_s g4 o4.2 (n25 _ o4)
  rw [show e + 4 + 1 = e + 5 by omega] at g5
  refine gd_s ?_ h16 (by rw [k6]; decide)
  unfold dle
  by_cases c : M 70 (e + 5) = 24
  · rw [if_pos c]
    obtain ⟨⟨p1, p2, p3, p4⟩, p5⟩ := o5 c
    have g6 := gd_s g5 (by omega) (by rw [c]; decide)
    have g7 := gd_s g6 p4 (by rw [p1]; decide)
    rw [show e + 5 + 1 + 1 = e + 5 + 2 by omega] at g7
    by_cases c2 : M 70 (e + 5 + 2) = 115
    · rw [if_pos c2]
      obtain ⟨p6, p7, p8, p9⟩ := p5 c2
      have g8 := gd_s g7 (by omega) (by rw [c2]; decide)
      have g9 := gd_s g8 (by omega) (by rw [show e + 5 + 2 + 1 = e + 5 + 3 by omega, p6]; decide)
      rw [show e + 5 + 2 + 1 + 1 = e + 5 + 4 by omega] at g9
      exact g9
    · rw [if_neg c2]; exact g7
  · rw [if_neg c]; exact g5
theorem RT2_fx [ig : Inhabited gh_] {M0 N0 : mm_} {r : Int} (h : RT2 M0 N0 r) (f : FIX M0 N0 M N) : RT2 M N r := by
  obtain ⟨a1, a2, a3, a4, a5⟩ := f
  have tp : tpl N = tpl N0 := tpl_e a4.2.2 (a3 154 (by decide))
  unfold RT2 at h ⊢
  rw [a1 114 (by decide), a1 115 (by decide), a1 116 (by decide), a1 117 (by decide), a1 118 (by decide), a1 119 (by decide), a3 158 (by decide), a3 159 (by decide), a3 160 (by decide), a3 161 (by decide), a3 162 (by decide), a3 163 (by decide), a3 164 (by decide), a3 166 (by decide), tp]
  exact h
/-- the invariant of pass 2, with frames -/
def GRF (M0 N0 : mm_) (M N : mm_) (np nr : Int) : Prop := GRX M N np nr ∧ (XPb M0 M ∧ M 5 36 = M0 5 36) ∧ QPb N0 N
theorem GRF_1 [ig : Inhabited gh_] {M0 N0 : mm_} : IV1 (GRF M0 N0) := fun M N M' N' np nr h hx h1 hq h6 hz => ⟨GRX_1 M N M' N' np nr h.1 hx h1 hq h6 hz, ⟨XPb_tr h.2.1.1 (fun k hk => hx k (fun e => hk (by rw [e]; decide))), by rw [hx 5 (by decide)]; exact h.2.1.2⟩, QPb_tr h.2.2 ⟨fun k hk => hq k (fun e => hk (by unfold QPRr; omega)), fun i hi => h6 i (fun e => hi (by simp only [qpI, List.mem_cons, List.not_mem_nil, or_false] at e ⊢; (clear h hx h1 hq h6 hz hi; lia)))⟩⟩
theorem GRF_R [ig : Inhabited gh_] {M0 N0 : mm_} : IVR (GRF M0 N0) := fun M N M' N' np nr h hx h1 hq h6 hz => ⟨GRX_R M N M' N' np nr h.1 hx h1 hq h6 hz, ⟨XPb_tr h.2.1.1 (fun k hk => hx k (fun e => hk (by rw [e]; decide))), by rw [hx 5 (by decide)]; exact h.2.1.2⟩, QPb_tr h.2.2 ⟨fun k hk => hq k (fun e => hk (by unfold QPRr; omega)), fun i hi => h6 i (fun e => hi (by simp only [qpI, List.mem_cons, List.not_mem_nil, or_false] at e ⊢; (clear h hx h1 hq h6 hz hi; lia)))⟩⟩
theorem GRF_2 [ig : Inhabited gh_] {M0 N0 : mm_} : IV2 (GRF M0 N0) := fun F F' M N M' N' Me a a' ns nr np S hnp hI P S' hM => ⟨GRX_2 F F' M N M' N' Me a a' ns nr np S hnp hI.1 P S' hM, by
  obtain ⟨f, c, j, eM, cm⟩ := hM
  have pf := PRO_f S P
  refine ⟨XPb_tr hI.2.1.1 (XPb_tr (PRF_X pf) fun k hk => ?_), by rw [eM, cmX_r (by decide) (by decide) (by decide), pf.2.1 36 (by decide)]; exact hI.2.1.2⟩
  rw [eM]
  exact cmX_r (fun e => hk (by rw [e]; decide)) (fun e => hk (by rw [e]; decide)) (fun e => hk (by rw [e]; decide)), QPb_tr hI.2.2 (PRF_Q (PRO_f S P))⟩
end PJa
end T318_pj
section T318_th
/-! what Q's value of a name's token is, by X's text (role 2) -/
theorem Tks_h {Mx Mq : mm_} {g : Int → Int} {n : Int} {m m' : Nat} (hn0 : 0 ≤ n) (hn : n ≤ 5000) (hb : ∀ i, 0 ≤ i → i < 5000 → -128 ≤ Mx 69 i ∧ Mx 69 i ≤ 127) (hag : Ag_ g (Mx 69) n) (hT : TX_ Mx (Mx 69) n m) (hm1 : 1 ≤ m) (hm2 : kd_ (Mx 69) n (m - 1) = 102 ∨ m = 1202) (hQ : QT_ Mq g n m') : ∀ i, gd_ Mx i → Mx 70 i = 100 → Mq 151 i = hs_ (Mx 69) (Mx 71 i) (Mx 72 i - Mx 71 i).toNat ∧ (∀ j : Nat, j < (Mx 72 i - Mx 71 i).toNat → 0 < cd_ (Mx 69 (Mx 71 i + j) % 256)) ∧ 1 ≤ Mx 72 i - Mx 71 i ∧ Mx 72 i - Mx 71 i ≤ 10 := by
  have hps : ∀ i, ps_ g n i = ps_ (Mx 69) n i := ps_ag hag hn0
  have hX : ∀ i : Nat, (i : Int) ≤ 1200 → (∀ j : Int, 0 ≤ j → j < i → Mx 70 j ≠ 102 ∧ Mx 70 j ≠ 103) → i < m := by
    intro i hi hj
    refine Classical.byContradiction fun h => ?_
    rcases hm2 with h1 | h1
    · have h2 := (hT (m - 1) (by omega)).2.1
      have := (hj ((m - 1 : Nat) : Int) (by omega) (by omega)).1
      rw [h2, h1] at this
      exact this rfl
    · omega
  have hK : ∀ i : Nat, (i : Int) ≤ 1200 → (∀ j : Int, 0 ≤ j → j < i → Mx 70 j ≠ 102 ∧ Mx 70 j ≠ 103) → ∀ k : Nat, k < i → kd_ (Mx 69) n k ≠ 102 ∧ kd_ (Mx 69) n k ≠ 103 := by
    intro i hi hj k hk
    have h1 := hX i hi hj
    have h2 := (hT k (by omega)).2.1
    have := hj k (by omega) (by omega)
    rw [h2] at this
    exact this
  have hqq : ∀ i : Nat, (i : Int) ≤ 1200 → (∀ j : Int, 0 ≤ j → j < i → Mx 70 j ≠ 102 ∧ Mx 70 j ≠ 103) → i < m' := by
    intro i hi hj
    refine Classical.byContradiction fun h => ?_
    obtain ⟨h1, h2, h3, h4, h5⟩ := hQ
    have h6 := hK i hi hj (m' - 1) (by omega)
    rw [hps] at h5
    have h7 : ps_ (Mx 69) n (m' - 1) < n := Classical.byContradiction fun h8 => h6.1 (kd_102.mpr h8)
    rcases h5 with h5 | h5 | h5
    · exact h5 h7
    · have h8 := kq_at (f := Mx 69) h7
      rw [qo_ag hag (ps_r (Mx 69) n hn0 _).1 h7] at h5
      rw [h5] at h8
      unfold KQ at h8
      have : (tkk_ (Mx 69) n (ps_ (Mx 69) n (m' - 1))).1 = 103 := by (clear hn0 hn hb hag hT hm1 hm2 hps hX hK hi hj h h1 h2 h3 h4 h6 h7 h5; omega)
      exact h6.2 this
    · omega
  have hY : ∀ i : Nat, gd_ Mx i → Mx 71 i = ps_ (Mx 69) n i ∧ Mx 70 i = kd_ (Mx 69) n i ∧ Mx 72 i = en9_ (Mx 69) n i ∧ (dg_ (by_ (Mx 69) n (ps_ (Mx 69) n i)) = 1 → Mx 73 i = uv_ (Mx 69) (ps_ (Mx 69) n i) (ue_ (Mx 69) n (ps_ (Mx 69) n i) - ps_ (Mx 69) n i).toNat) ∧ Mq 150 i = ps_ (Mx 69) n i ∧ KQ (kd_ (Mx 69) n i) (Mq 149 i) (Mq 151 i) ∧ (ps_ (Mx 69) n i < n → Mq 151 i = (qo_ (Mx 69) n (ps_ (Mx 69) n i)).2.1) ∧ (∀ k : Nat, k < i → kd_ (Mx 69) n k ≠ 102) := by
    intro i hi
    have h1 := hT i (hX i hi.2.1 hi.2.2)
    have h2 := hQ.1 i (hqq i hi.2.1 hi.2.2)
    rw [hps] at h2
    refine ⟨h1.1, h1.2.1, h1.2.2.1, h1.2.2.2, h2.1, ?_, ?_, fun k hk => (hK i hi.2.1 hi.2.2 k hk).1⟩
    · by_cases h3 : ps_ (Mx 69) n i < n
      · have h4 := h2.2.1 h3
        rw [qo_ag hag (ps_r (Mx 69) n hn0 _).1 h3] at h4
        rw [h4.1, h4.2]; exact kq_at h3
      · rw [(h2.2.2 h3).1]
        have : kd_ (Mx 69) n i = 102 := kd_102.mpr h3
        rw [this]; exact .inr (.inr (.inl ⟨rfl, rfl⟩))
    · intro h3
      have h4 := h2.2.1 h3
      rw [qo_ag hag (ps_r (Mx 69) n hn0 _).1 h3] at h4
      exact h4.2
  intro i hi h1
  obtain ⟨i', rfl⟩ := Int.eq_ofNat_of_zero_le hi.1
  have h := hY i' hi
  rw [h.2.1] at h1
  have h2 := nm_at h1
  rw [h.2.2.2.2.2.2.1 h2.2.1, h2.2.2.2.2, h.1, h.2.2.1]
  unfold en9_
  rw [h2.2.2.1]
  have h3 : ps_ (Mx 69) n i' + 1 ≤ ne_ (Mx 69) n (ps_ (Mx 69) n i') := by
    rw [ne_, dif_pos (cd_w h2.1)]; exact ne_ge _ _ _
  exact ⟨rfl, fun j hj => (ne_in (Mx 69) n (ps_ (Mx 69) n i') _ (by omega) (by omega)).1, by omega, by omega⟩


def TKN (M N : mm_) : Prop := ∀ i, gd_ M i → M 70 i = 100 → N 151 i = hs_ (M 69) (M 71 i) (M 72 i - M 71 i).toNat ∧ (∀ j : Nat, j < (M 72 i - M 71 i).toNat → 0 < cd_ (M 69 (M 71 i + j) % 256)) ∧ 1 ≤ M 72 i - M 71 i ∧ M 72 i - M 71 i ≤ 10
theorem TKN_c {M N M' N' : mm_} (h : TKN M N) (hx : ∀ r : Nat, 69 ≤ r → r ≤ 72 → M' r = M r) (hq : N' 151 = N 151) : TKN M' N' := by
  intro i g e
  have g' : gd_ M i := by unfold gd_ at g ⊢; rw [hx 70 (by decide) (by decide)] at g; exact g
  rw [hx 70 (by decide) (by decide)] at e
  rw [hx 69 (by decide) (by decide), hx 71 (by decide) (by decide), hx 72 (by decide) (by decide), hq]
  exact h i g' e
end T318_th
section T319_y1
/-! reads (X 101) | parse (Q 218), whole -/
/-- behind a clean parse -/
def PLA (M N : mm_) : Prop := ∃ (i : Inhabited gh_) (F a : Int), (@SYS i 1 F M N a (M 5 0) (M 5 1) (M 5 2) ∧ M 70 a = 102) ∧ GRX M N (M 5 2) (M 5 1) ∧ (∀ r, 0 ≤ r → r < M 5 1 → RT2 M N r) ∧ N 6 13 = 0 ∧ M 5 36 = 0 ∧ (∀ T, 0 ≤ T → T < M 5 2 → N 170 T ≤ N 171 T) ∧ TKN M N
def xrL : List Nat := 2 :: 69 :: 70 :: 71 :: 72 :: 73 :: xpL
def XLd (M M' : mm_) : Prop := Fr_ xrL M M'
def QLd (N N' : mm_) : Prop := (∀ r : Nat, ¬ (QPRr r ∨ r = 149 ∨ r = 150 ∨ r = 151) → N' r = N r) ∧ ∀ i : Int, i ∉ 11 :: qpI → N' 6 i = N 6 i
def FLT (M M' N N' : mm_) : Prop := QLd N N' ∧ (M' 1 4 ≠ 0 ∧ N' 6 13 = M' 1 4 ∧ N' 6 14 = M' 1 5) ∧ 0 ≤ M' 1 7 ∧ M' 1 7 ≤ M 1 7 + 30000
section Y1a
variable {M N M' N' M1 N1 : mm_}
theorem XLd_P [Inhabited gh_] (h : XLd M M1) (g : XPb M1 M') : XLd M M' := fun r hr => (g r (fun e => hr (by unfold xrL; simp only [List.mem_cons]; simp only [e, or_true]))).trans (h r hr)
theorem QLd_P [Inhabited gh_] (h : QLd N N1) (g : QPb N1 N') : QLd N N' := ⟨fun r hr => (g.1 r (fun e => hr (.inl e))).trans (h.1 r hr), fun i hi => (g.2 i (fun e => hi (List.mem_cons_of_mem _ e))).trans (h.2 i hi)⟩
theorem QLd_16 [Inhabited gh_] {v : Int} (h : QLd N N1) : QLd N (up_ N1 6 16 v) := QLd_P h ⟨fun r hr => up_ne (fun e => hr (by unfold QPRr; (clear h hr; lia))), fun i hi => up_of2 (nm_i hi (by decide))⟩
theorem RTX_c2 [Inhabited gh_] {r a : Int} (h : RTX M N r a) (hx : ∀ k : Nat, k ∈ [70, 73, 114, 115, 116, 117, 118, 119] → M1 k = M k) (hs : sgl N1 = sgl N) (ht : tpl N1 = tpl N) (h151 : N1 151 = N 151) : RTX M1 N1 r a := by
  unfold RTX sdv at h ⊢
  rw [hx 114 (by decide), hx 115 (by decide), hx 116 (by decide), hx 117 (by decide), hx 118 (by decide), hx 119 (by decide), hx 70 (by decide), hx 73 (by decide), ht, h151]
  exact ⟨h.1, h.2.1, fun m hm => by rw [lsv_e hs h151]; exact h.2.2 m hm⟩
theorem GRX_0 [Inhabited gh_] (h6 : N 6 62 = 0 ∧ N 6 75 = 0 ∧ N 6 76 = 0) (h1 : M 1 21 = 0 ∧ M 1 22 = 0 ∧ M 1 23 = 0) : GRX M N 0 0 := by
  obtain ⟨a1, a2, a3⟩ := h6
  obtain ⟨b1, b2, b3⟩ := h1
  refine ⟨fun _ => ⟨fun k k0 k1 => by (clear a2 a3 b1 b2 b3; omega), fun T T0 T1 => by omega, fun me m0 m1 => by omega, ⟨⟨fun s _ _ => ?_, fun s _ _ => ?_⟩, by omega, fun s _ _ => ?_⟩⟩, fun _ r r0 r1 => by omega⟩
  · rw [b1]; exact ⟨fun h => absurd h bt_0, fun ⟨k, hk, _⟩ => by omega⟩
  · rw [b3]; exact ⟨fun h => absurd h bt_0, fun ⟨k, hk, _⟩ => by omega⟩
  · rw [b2]; exact ⟨fun h => absurd h bt_0, fun ⟨k, i, hk, _⟩ => by omega⟩
end Y1a
section Y1
variable {dq : Nat} {K : Int → mm_ → Prop} {Qt : qt_} {M N : mm_} {n : Int}
theorem y_101 (hn0 : 0 ≤ n) (hn : n ≤ 5000) (h4 : N 6 4 = n) (hw : Wd_ N) (hro : RO_ M) (hbN : ∀ i, 0 ≤ i → i < 5000 → -128 ≤ N 146 i ∧ N 146 i ≤ 127) (hb9 : ∀ i, 0 ≤ i → i < 5000 → -128 ≤ M 9 i ∧ M 9 i ≤ 127) (hb69 : ∀ i, 0 ≤ i → i < 5000 → -128 ≤ M 69 i ∧ M 69 i ≤ 127) (hag : ∀ i, 0 ≤ i → i < n → N 146 i = M 9 i) (h7 : 0 ≤ M 1 7 ∧ M 1 7 ≤ 100000000)
    (hF : ∀ M', XLd M M' → (M' 69 = cp_ (M 9) (M 69) n) → (∀ (G : Int → mm_ → Prop) (Qtq : qt_), (∀ N', FLT M M' N N' → G 0 N') → Tr_ wd0 pg0 (dq + 21) 218 [.inr (.inr 6)] N (ri_ G) Qtq) → K (M' 1 4) M')
    (hO : ∀ M' N', XLd M M' → (M' 69 = cp_ (M 9) (M 69) n) → QLd N N' → PLA M' N' → M' 1 4 = 0 → (0 ≤ M' 1 7 ∧ M' 1 7 ≤ M 1 7 + 30000) → (∀ (G : Int → mm_ → Prop) (Qtq : qt_), G 1 (up_ N' 6 16 0) → Tr_ wd0 pg0 (dq + 21) 218 [.inr (.inr 6)] N (ri_ G) Qtq) → ∀ Qt' : qt_, Tr_ wd0 pg0 132 179 [.inr (.inr 1)] M' (rv_ fun M2 => K (M2 1 4) M2) Qt') :
    Tr_ wd0 pg0 133 101 [.inr (.inr 1), .inr (.inr 9), .inl n, .inr (.inr 5)] M (ri_ K) Qt := by
  haveI i0 : Inhabited gh_ := ⟨(0, fun _ => 0, 0, 0)⟩
  obtain ⟨N1, mq, ⟨g1, g2, g3⟩, hq218⟩ := q_218 (dq := dq) (N := N) (by omega) (by omega) hw hbN
  refine t_101 fun V hV hW => b_101_0 (Tr_mono _) hV hW _ _ ⟨rfl, rfl, rfl, rfl, rfl, rfl, rfl, .inl rfl, ?_⟩
  have r9 : rX0 M 9 = M 9 := rX0_r (by decide) (by decide)
  have r69 : rX0 M 69 = M 69 := rX0_r (by decide) (by decide)
  refine s_191a (d := 125) (M := rX0 M) hn0 hn ?_ (by rw [r9]; exact hb9) (by rw [r69]; exact hb69) (fun M1 m f1 e69 _ tx _ m1 _ m3 => ?_)
  · unfold RO_
    rw [rX0_r (by decide) (by decide), rX0_r (by decide) (by decide), rX0_r (by decide) (by decide), rX0_r (by decide) (by decide)]; exact hro
  rw [r9, r69] at e69
  have b69 : ∀ i, 0 ≤ i → i < 5000 → -128 ≤ M1 69 i ∧ M1 69 i ≤ 127 := fun i i0 i1 => by
    rw [e69]; unfold cp_
    split
    · exact hb9 i i0 i1
    · exact hb69 i i0 i1
  have ag : Ag_ (N 146) (M1 69) n := fun i i0 i1 => by rw [e69]; unfold cp_; rw [if_pos ⟨i0, i1⟩]; exact hag i i0 i1
  rw [h4] at g3
  have tk1 : Tks M1 N1 := Tks_i hn0 hn b69 ag tx m1 m3 g3
  have th1 : TKN M1 N1 := Tks_h hn0 hn b69 ag tx m1 m3 g3
  refine ⟨.inl rfl, t_102 fun V2 hV2 hW2 => b_102_0 (Tr_mono _) hV2 hW2 _ ?_⟩
  show V2 25 [rr 1] [] (rX1 (up_ M1 1 8 0))
  -- the memories of pass 1
  have xa : ∀ k : Nat, k ≠ 1 → rX1 (up_ M1 1 8 0) k = M1 k := fun k hk => by rw [rX1_r hk, up_ne hk]
  have xa1 : ∀ i : Int, i ∉ [3, 6, 8, 31, 32, 33] → rX1 (up_ M1 1 8 0) 1 i = rX0 M 1 i := fun i hi => by
    rw [rX1_1 (fun e => hi (by simp only [List.mem_cons, List.not_mem_nil, or_false] at e ⊢; (clear hn0 hn h4 hw hro hbN hb9 hb69 hag h7 hF hO hq218 g1 g2 g3 hV hW r9 r69 f1 e69 tx m1 m3 b69 ag tk1 th1 hV2 hW2 xa hi; lia))), up_of2 (nm_i hi (by decide)), f1 1 (by decide)]
  have xa8 : rX1 (up_ M1 1 8 0) 1 8 = 0 := by rw [rX1_1 (by decide), up_at]
  have k0 := rX0_k (M := M)
  have x5 : M1 5 = rX0 M 5 := f1 5 (by decide)
  have ka := rX1_k (M := up_ M1 1 8 0)
  have XA : XLd M (rX1 (up_ M1 1 8 0)) := fun r hr => by
    have n1 : r ≠ 1 := fun e => hr (by rw [e]; decide)
    rw [xa r n1, f1 r (fun e => hr (by unfold xrL xpL; simp only [List.mem_cons, List.not_mem_nil, or_false] at e ⊢; (clear hn0 hn h4 hw hro hbN hb9 hb69 hag h7 hF hO hq218 g1 g2 g3 hV hW r9 r69 f1 e69 tx m1 m3 b69 ag tk1 th1 hV2 hW2 xa xa1 xa8 k0 x5 ka hr n1; lia))), rX0_r n1 (fun e => hr (by rw [e]; decide))]
  have QA1 : QLd N (rQ1 N1) := ⟨fun r hr => by
    have n6 : r ≠ 6 := fun e => hr (.inl (by unfold QPRr; (clear hn0 hn h4 hw hro hbN hb9 hb69 hag h7 hF hO hq218 g1 g2 g3 hV hW r9 r69 f1 e69 tx m1 m3 b69 ag tk1 th1 hV2 hW2 xa xa1 xa8 k0 x5 ka XA hr; lia)))
    rw [rQ1_r n6, g1 r (fun e => hr (by simp only [List.mem_cons, List.not_mem_nil, or_false] at e; unfold QPRr; (clear hn0 hn h4 hw hro hbN hb9 hb69 hag h7 hF hO hq218 g1 g2 g3 hV hW r9 r69 f1 e69 tx m1 m3 b69 ag tk1 th1 hV2 hW2 xa xa1 xa8 k0 x5 ka XA hr n6; lia))), rQ0_r n6], fun i hi => by
    rw [rQ1_6 (fun e => hi (by simp only [qpI, List.mem_cons, List.not_mem_nil, or_false] at e ⊢; (clear hn0 hn h4 hw hro hbN hb9 hb69 hag h7 hF hO hq218 g1 g2 g3 hV hW r9 r69 f1 e69 tx m1 m3 b69 ag tk1 th1 hV2 hW2 xa xa1 xa8 k0 x5 ka XA hi; lia))), g2 i (nm_i hi (by decide)), rQ0_6 (fun e => hi (by simp only [qpI, List.mem_cons, List.not_mem_nil, or_false] at e ⊢; (clear hn0 hn h4 hw hro hbN hb9 hb69 hag h7 hF hO hq218 g1 g2 g3 hV hW r9 r69 f1 e69 tx m1 m3 b69 ag tk1 th1 hV2 hW2 xa xa1 xa8 k0 x5 ka XA hi; lia)))]⟩
  have tka : Tks (rX1 (up_ M1 1 8 0)) (rQ1 N1) := Tks_r tk1 (fun r hr => xa r (fun e => by rw [e] at hr; revert hr; decide)) (fun r hr => rQ1_r (fun e => by rw [e] at hr; revert hr; decide))
  have tha : TKN (rX1 (up_ M1 1 8 0)) (rQ1 N1) := TKN_c th1 (fun r h0 h1 => xa r (by (clear hn0 hn h4 hw hro hbN hb9 hb69 hag h7 hF hO hq218 g1 g2 g3 hV hW r9 r69 f1 e69 tx m1 m3 b69 ag tk1 th1 hV2 hW2 xa xa1 xa8 k0 x5 ka XA QA1 tka; omega))) (rQ1_r (by decide))
  have a69 : rX1 (up_ M1 1 8 0) 69 = cp_ (M 9) (M 69) n := by rw [xa 69 (by decide)]; exact e69
  have q1 := rQ1_k (N := N1)
  have q0 := rQ0_k (N := N)
  have S0 : @SYS (ih_ (1000000000 - 9608 - M 1 7).toNat (fun _ => 1000000) 0 0) 0 1000000 (rX1 (up_ M1 1 8 0)) (rQ1 N1) 0 0 0 0 := by
    refine SYS_i (ig := ih_ (1000000000 - 9608 - M 1 7).toNat (fun _ => 1000000) 0 0) tka ⟨?_, ka.1, ?_, ka.2.1, xa8, ka.2.2.1, ka.2.2.2.1, ka.2.2.2.2⟩ ?_ ?_ ⟨q1.1.1, ?_, q1.1.2, ?_, ?_, ?_, ?_, ?_⟩ q1.2
    · rw [xa1 2 (by decide)]; exact k0.1.1
    · rw [xa1 4 (by decide)]; exact k0.1.2.1
    · rw [xa 5 (by decide), x5]; exact ⟨k0.2.1, k0.2.2.1, k0.2.2.2.1, k0.2.2.2.2.1, k0.2.2.2.2.2.1⟩
    · rw [xa1 7 (by decide), rX0_1 (by decide)]
      show 0 ≤ M 1 7 ∧ M 1 7 + 9608 ≤ 1000000000 - (((1000000000 - 9608 - M 1 7).toNat : Nat) : Int)
      (clear hn0 hn h4 hw hro hbN hb9 hb69 hag hF hO hq218 g1 g2 g3 hV hW r9 r69 f1 e69 tx m1 m3 b69 ag tk1 th1 hV2 hW2 xa xa1 xa8 k0 x5 ka XA QA1 tka tha a69 q1 q0; omega)
    · rw [rQ1_6 (by decide), g2 13 (by decide)]; exact q0.1
    · rw [rQ1_6 (by decide), g2 16 (by decide)]; exact q0.2.1
    · rw [rQ1_6 (by decide), g2 17 (by decide)]; exact q0.2.2.1
    · rw [rQ1_6 (by decide), g2 18 (by decide)]; exact q0.2.2.2.1
    · rw [rQ1_6 (by decide), g2 19 (by decide)]; exact q0.2.2.2.2.1
    · rw [rQ1_6 (by decide), g2 58 (by decide)]; exact q0.2.2.2.2.2
  have a9 : rX1 (up_ M1 1 8 0) 1 9 = 0 := by rw [xa1 9 (by decide)]; exact k0.1.2.2.2
  have a53 : rX1 (up_ M1 1 8 0) 5 3 = 0 ∧ rX1 (up_ M1 1 8 0) 5 4 = 0 ∧ rX1 (up_ M1 1 8 0) 5 36 = 0 := by rw [xa 5 (by decide), x5]; exact ⟨k0.2.2.2.2.1, k0.2.2.2.2.2⟩
  generalize eMa : rX1 (up_ M1 1 8 0) = Ma at *
  generalize eNa : rQ1 N1 = Na at *
  clear eMa eNa tx tk1 th1 g1 g2 g3 q1 q0 k0 ka xa xa1 xa8 x5 f1 b69 ag m3
  have g1n : ((1000000000 - 9608 - M 1 7).toNat : Int) = 1000000000 - 9608 - M 1 7 := by omega
  refine l_25a (ig := ih_ (1000000000 - 9608 - M 1 7).toNat (fun _ => 1000000) 0 0) (dq := dq) ⟨rfl, rfl, fun _ => rfl⟩ hV2 hW2 1201 0 1000000 0 0 0 1 Ma Na (by omega) S0 a9 (fun r r0 r1 => by omega) (fun T T0 T1 => by omega) (fun F' M2 N2 a' ns nr np m S2 e102 RP kp ln fr ga sy hq => ?_) (fun Mx' hx' hq' => ⟨.inr rfl, b_101_173_8 (Tr_mono _) hV hW _ _ (ri_i (hF Mx' (XLd_P XA hx') (by rw [hx' 69 (by decide)]; exact a69) (fun G Qtq hg => hq218 G Qtq (hq' _ Qtq fun N' sq => ?_))))⟩)
  rotate_left
  · have s1 := sq.1
    have s4 := sq.2.2.2.1
    have b7 : Mx' 1 7 ≤ 1000001000 - (((1000000000 - 9608 - M 1 7).toNat : Nat) : Int) := s4.2.2
    unfold qRS
    rw [if_neg (by have := s1.1; omega)]
    exact ⟨.inl rfl, ri_i (hg N' ⟨QLd_P QA1 sq.2.2.2.2, ⟨by rw [← sq.2.2.1]; have := s1.1; (clear hn0 hn h4 hw hro hbN hb9 hb69 hag h7 hF hO hV hW r9 r69 e69 m1 hV2 hW2 XA a69 a9 a53 hq218 QA1 tka tha S0 g1n hx' hq' hg sq s1 s4 b7; omega), sq.2.2.1, s4.1⟩, s4.2.1, by omega⟩)⟩
  -- behind pass 1
  obtain ⟨d50, d51, d52⟩ := S2.2.1.2.2 rfl
  obtain ⟨XP2, QP2, m29, _, m53, m54, m536⟩ := fr
  have hE2 := S2.1.1.2.1
  have tk2 := S2.1.1.1
  have n13 : N2 6 13 = 0 := hE2.2.2.2.2.2.2.2.2.2.1 rfl
  have r9' := S2.1.2.1.2.2.1
  have s9' := S2.1.2.1.1.1
  have t9' := S2.1.2.1.2.1.1
  have m12 := S2.1.1.2.2
  have f17 : M2 1 7 + 8 * (1201 - a') ≤ 1000000000 - (((1000000000 - 9608 - M 1 7).toNat : Nat) : Int) := S2.1.2.2.2.2.1.2.2.1
  have ga2 := hE2.1
  have f0 : 0 ≤ M2 1 7 := hE2.2.2.2.2.2.2.2.2.2.2.2.1
  refine ⟨.inr rfl, ?_⟩
  have u : ∀ k : Nat, k ≠ 1 → up_ (up_ M2 1 9 1) 1 32 0 k = M2 k := fun k hk => by rw [up_ne hk, up_ne hk]
  have u1 : ∀ i : Int, i ∉ [9, 32] → up_ (up_ M2 1 9 1) 1 32 0 1 i = M2 1 i := fun i hi => by rw [up_of2 (nm_i hi (by decide)), up_of2 (nm_i hi (by decide))]
  have u9 : up_ (up_ M2 1 9 1) 1 32 0 1 9 = 1 := by rw [up_of2 (by decide), up_at]
  have u32 : up_ (up_ M2 1 9 1) 1 32 0 1 32 = 0 := up_at
  have m18 : M2 1 8 = 0 := hE2.2.2.2.2.2.2.1
  generalize up_ (up_ M2 1 9 1) 1 32 0 = M0 at *
  have k70 : M0 70 = M2 70 := u 70 (by decide)
  have tk0 : Tks M0 N2 := Tks_r tk2 (fun r hr => u r (fun e => by rw [e] at hr; revert hr; decide)) (fun _ _ => rfl)
  have s0 : sgl9 M0 N2 := by
    unfold sgl9
    rw [u 5 (by decide), u 56 (by decide)]
    exact ⟨s9'.1, fun k k0 k1 => ⟨nm9_r (s9'.2 k k0 k1).1 k70, (s9'.2 k k0 k1).2⟩⟩
  have t0 : tpl9 M0 N2 := by
    unfold tpl9
    rw [u 5 (by decide), u 58 (by decide)]
    exact ⟨t9'.1, fun k k0 k1 => ⟨nm9_r (t9'.2 k k0 k1).1 k70, (t9'.2 k k0 k1).2⟩⟩
  have R0 : ∀ r, 0 ≤ r → r < M0 5 1 → RRW M0 N2 r := fun r r0 r1 => by
    rw [u 5 (by decide), d51] at r1
    exact RRW_c (RP.1 r r0 r1) k70 (u 73 (by decide)) rfl (by rw [u 55 (by decide)]) (by rw [u 57 (by decide)]) (fun _ _ => rfl)
  have b51 : 0 ≤ M0 5 1 ∧ M0 5 1 ≤ 10 := by rw [u 5 (by decide)]; exact ⟨r9'.1.1, r9'.1.2.1⟩
  refine l_96 hV hW tk0 ⟨by rw [u1 2 (by decide)]; exact m12, by rw [u1 8 (by decide)]; exact m18, u9⟩ s0 t0 b51 R0 (fun M3 fl => ?_) 10 0 M0 (by (clear hn0 hn h4 hw hro hbN hb9 hb69 hag h7 hF hO hV hW r9 r69 e69 m1 hV2 hW2 XA a69 a9 a53 hq218 QA1 tka tha S0 g1n S2 e102 RP kp ln ga sy hq d50 d51 d52 XP2 QP2 m29 m53 m54 m536 hE2 tk2 n13 r9' s9' t9' m12 f17 ga2 f0 m18 u u1 u9 u32 k70 tk0 s0 t0 R0; omega)) (by omega) b51.1 ⟨⟨fun _ _ => rfl, fun _ _ => rfl, u32⟩, fun r r0 r1 => by (clear hn0 hn h4 hw hro hbN hb9 hb69 hag h7 hF hO hV hW r9 r69 e69 m1 hV2 hW2 XA a69 a9 a53 hq218 QA1 tka tha S0 g1n S2 e102 RP kp ln ga sy hq d50 d51 d52 XP2 QP2 m29 m53 m54 m536 hE2 tk2 n13 r9' s9' t9' m12 f17 ga2 f0 m18 u u1 u9 u32 k70 tk0 s0 t0 R0 b51; omega)⟩
  obtain ⟨⟨l1, l2, l3⟩, l4⟩ := fl
  refine t_102 fun V3 hV3 hW3 => b_102_0 (Tr_mono _) hV3 hW3 _ ?_
  show V3 25 [rr 1] [] (rX1 (rX2 M3))
  -- the memories of pass 2
  have v : ∀ k : Nat, k ≠ 1 → rX1 (rX2 M3) k = M3 k := fun k hk => by rw [rX1_r hk, rX2_r hk]
  have v1 : ∀ i : Int, i ∉ [3, 6, 31, 32, 33, 8, 9, 21, 22, 23] → rX1 (rX2 M3) 1 i = M2 1 i := fun i hi => by
    rw [rX1_1 (fun e => hi (by simp only [List.mem_cons, List.not_mem_nil, or_false] at e ⊢; (clear hn0 hn h4 hw hro hbN hb9 hb69 hag h7 hF hO hV hW r9 r69 e69 m1 hV2 hW2 XA a69 a9 a53 hq218 QA1 tka tha S0 g1n S2 e102 RP kp ln ga sy hq d50 d51 d52 XP2 QP2 m29 m53 m54 m536 hE2 tk2 n13 r9' s9' t9' m12 f17 ga2 f0 m18 u u1 u9 u32 k70 tk0 s0 t0 R0 b51 l4 l1 l2 l3 hV3 hW3 v hi; lia))), rX2_1 (fun e => hi (by simp only [List.mem_cons, List.not_mem_nil, or_false] at e ⊢; (clear hn0 hn h4 hw hro hbN hb9 hb69 hag h7 hF hO hV hW r9 r69 e69 m1 hV2 hW2 XA a69 a9 a53 hq218 QA1 tka tha S0 g1n S2 e102 RP kp ln ga sy hq d50 d51 d52 XP2 QP2 m29 m53 m54 m536 hE2 tk2 n13 r9' s9' t9' m12 f17 ga2 f0 m18 u u1 u9 u32 k70 tk0 s0 t0 R0 b51 l4 l1 l2 l3 hV3 hW3 v hi; lia))), l2 i (fun e => hi (by simp only [List.mem_cons, List.not_mem_nil, or_false] at e ⊢; (clear hn0 hn h4 hw hro hbN hb9 hb69 hag h7 hF hO hV hW r9 r69 e69 m1 hV2 hW2 XA a69 a9 a53 hq218 QA1 tka tha S0 g1n S2 e102 RP kp ln ga sy hq d50 d51 d52 XP2 QP2 m29 m53 m54 m536 hE2 tk2 n13 r9' s9' t9' m12 f17 ga2 f0 m18 u u1 u9 u32 k70 tk0 s0 t0 R0 b51 l4 l1 l2 l3 hV3 hW3 v hi; lia))), u1 i (fun e => hi (by simp only [List.mem_cons, List.not_mem_nil, or_false] at e ⊢; (clear hn0 hn h4 hw hro hbN hb9 hb69 hag h7 hF hO hV hW r9 r69 e69 m1 hV2 hW2 XA a69 a9 a53 hq218 QA1 tka tha S0 g1n S2 e102 RP kp ln ga sy hq d50 d51 d52 XP2 QP2 m29 m53 m54 m536 hE2 tk2 n13 r9' s9' t9' m12 f17 ga2 f0 m18 u u1 u9 u32 k70 tk0 s0 t0 R0 b51 l4 l1 l2 l3 hV3 hW3 v hi; lia)))]
  have kb := rX1_k (M := rX2 M3)
  have kc := rX2_k (M := M3)
  have w8 : rX1 (rX2 M3) 1 8 = 1 := by rw [rX1_1 (by decide)]; exact kc.1
  have w21 : rX1 (rX2 M3) 1 21 = 0 ∧ rX1 (rX2 M3) 1 22 = 0 ∧ rX1 (rX2 M3) 1 23 = 0 := by rw [rX1_1 (by decide), rX1_1 (by decide), rX1_1 (by decide)]; exact kc.2.2
  have y : ∀ k : Nat, k ∉ [1, 114, 115, 116, 117, 118, 119] → rX1 (rX2 M3) k = M2 k := fun k hk => by
    have n1 : k ≠ 1 := fun e => hk (by rw [e]; decide)
    rw [v k n1, l1 k hk, u k n1]
  have X4 : ∀ r, 0 ≤ r → r < nr → RTX (rX1 (rX2 M3)) N2 r (M2 55 r) := fun r r0 r1 => by
    have := l4 r r0 (by rw [u 5 (by decide), d51]; exact r1)
    rw [u 55 (by decide)] at this
    exact RTX_c2 this (fun k hk => v k (fun e => by rw [e] at hk; revert hk; decide)) rfl rfl rfl
  have PX : P2X M2 (rX1 (rX2 M3)) nr := ⟨y, ⟨by rw [v1 2 (by decide)]; exact m12, kb.1, v1 4 (by decide), v1 5 (by decide), kb.2.1, v1 7 (by decide), w8⟩, ⟨kb.2.2.1, kb.2.2.2.1, kb.2.2.2.2⟩, w21⟩
  generalize eM4 : rX1 (rX2 M3) = M4 at *
  clear eM4 kb kc v v1 w8 l1 l2 l3 l4 R0 s0 t0 tk0 u u1 u9 u32 k70
  obtain ⟨nrn, hnr⟩ := Int.eq_ofNat_of_zero_le (a := nr) (by omega)
  have q18 : N2 6 18 = nrn := by rw [r9'.1.2.2, d51, hnr]
  have nr10 : nrn ≤ 10 := by have := r9'.1.2.1; (clear hn0 hn h4 hw hro hbN hb9 hb69 hag h7 hF hO hV hW r9 r69 e69 m1 hV2 hW2 XA a69 a9 a53 hq218 QA1 tka tha S0 g1n S2 e102 RP kp ga sy hq d50 d52 XP2 QP2 m29 m53 m54 m536 hE2 tk2 n13 r9' s9' t9' m12 f17 ga2 f0 m18 b51 hV3 hW3 w21 y X4 PX; omega)
  obtain ⟨mm, hmm⟩ : ∃ mm : Int → Nat, ∀ r, 0 ≤ r → r < nr → LST (M2 70) (mm r) (dle (M2 70) (M2 55 r + 5) + 1) := by
    have : ∀ r : Int, ∃ m : Nat, 0 ≤ r → r < nr → LST (M2 70) m (dle (M2 70) (M2 55 r + 5) + 1) := fun r => by
      by_cases c : 0 ≤ r ∧ r < nr
      · obtain ⟨_, ⟨m, hm⟩, _⟩ := RP.1 r c.1 c.2
        exact ⟨m, fun _ _ => hm.2.2.2.2.2.2⟩
      · exact ⟨0, fun a b => absurd ⟨a, b⟩ c⟩
    exact Classical.axiomOfChoice this
  have lsq : ∀ i, 0 ≤ i → i < (nrn : Int) → LSQ N2 (mm i) (N2 165 i) := fun i i0 i1 => by
    obtain ⟨⟨g0, k0, _⟩, ⟨m', hm'⟩, _, _, q5⟩ := RP.1 i i0 (by (clear hn0 hn h4 hw hro hbN hb9 hb69 hag h7 hF hO hV hW r9 r69 e69 m1 hV2 hW2 XA a69 a9 a53 hq218 QA1 tka tha S0 g1n S2 e102 RP kp ln ga sy hq d50 d52 XP2 QP2 m29 m53 m54 m536 hE2 tk2 n13 r9' s9' t9' m12 f17 ga2 f0 m18 b51 hV3 hW3 w21 y X4 PX nr10 hmm i0; omega))
    rw [q5]
    exact LST_q tk2 _ _ (RTE_gd g0 k0 hm') (hmm i i0 (by omega))
  have rk := rsn_k (N := N2) (mm := mm) nrn
  have rr_ : ∀ k : Nat, k ≠ 160 → k ≠ 161 → k ≠ 164 → rsn N2 mm nrn k = N2 k := fun k h1 h2 h3 => rsn_r h1 h2 h3 nrn
  have go3 : ∀ (G : mm_ → Prop) (Qtq : qt_), G (rsn N2 mm nrn) → Tr_ wd0 pg0 (dq + 18 + 2) 315 [.inr (.inr 6)] N2 (rv_ G) Qtq := fun G Qtq hg => q_315 q18 nr10 s9' t9' (fun i _ i1 => lsq i (by (clear hn0 hn h4 hw hro hbN hb9 hb69 hag h7 hF hO hV hW r9 r69 e69 m1 hV2 hW2 XA a69 a9 a53 hq218 QA1 tka tha S0 g1n S2 e102 RP kp ln ga sy hq d50 d51 d52 XP2 QP2 m29 m53 m54 m536 hE2 tk2 n13 r9' s9' t9' m12 f17 ga2 f0 m18 b51 hV3 hW3 w21 y X4 PX hnr q18 nr10 hmm lsq rk rr_ hg i1; omega)) (by (clear hn0 hn h4 hw hro hbN hb9 hb69 hag h7 hF hO hV hW r9 r69 e69 m1 hV2 hW2 XA a69 a9 a53 hq218 QA1 tka tha S0 g1n S2 e102 RP kp ln ga sy hq d50 d51 d52 XP2 QP2 m29 m53 m54 m536 hE2 tk2 n13 r9' s9' t9' m12 f17 ga2 f0 m18 b51 hV3 hW3 w21 y X4 PX hnr nr10 hmm lsq rk rr_ hg; omega))) hg
  generalize rsn N2 mm nrn = N3 at *
  have z : ∀ k : Nat, k ≠ 6 → rQ1 (up_ N3 6 16 1) k = N3 k := fun k hk => by rw [rQ1_r hk, up_ne hk]
  have z6 : ∀ i : Int, i ∉ [12, 15, 62, 63, 75, 76, 90, 104, 16] → rQ1 (up_ N3 6 16 1) 6 i = N2 6 i := fun i hi => by
    rw [rQ1_6 (fun e => hi (by simp only [List.mem_cons, List.not_mem_nil, or_false] at e ⊢; (clear hn0 hn h4 hw hro hbN hb9 hb69 hag h7 hF hO hV hW r9 r69 e69 m1 hV2 hW2 XA a69 a9 a53 hq218 QA1 tka tha S0 g1n S2 e102 RP kp ln ga sy hq d50 d51 d52 XP2 QP2 m29 m53 m54 m536 hE2 tk2 n13 r9' s9' t9' m12 f17 ga2 f0 m18 b51 hV3 hW3 w21 y X4 PX hnr q18 nr10 hmm lsq rk rr_ go3 z hi; lia))), up_of2 (nm_i hi (by decide)), rr_ 6 (by decide) (by decide) (by decide)]
  have z16 : rQ1 (up_ N3 6 16 1) 6 16 = 1 := by rw [rQ1_6 (by decide), up_at]
  have kq := rQ1_k (N := up_ N3 6 16 1)
  have gq4 : go_ (rQ1 (up_ N3 6 16 1)) := .inr (by rw [z16]; decide)
  have go4 : ∀ (G : mm_ → Prop) (Qtq : qt_), q73 dq 0 0 1 (rQ1 (up_ N3 6 16 1)) G Qtq → Tr_ wd0 pg0 (dq + 20) 226 [.inr (.inr 6)] (up_ N3 6 16 1) (rv_ G) Qtq := fun G Qtq h => q_226 gq4 h
  generalize rQ1 (up_ N3 6 16 1) = N4 at *
  have z3 : ∀ k : Nat, k ∉ [6, 160, 161, 164] → N4 k = N2 k := fun k hk => by rw [z k (nm_n hk (by decide)), rr_ k (nm_n hk (by decide)) (nm_n hk (by decide)) (nm_n hk (by decide))]
  have PQ : P2Q N2 N4 := ⟨z3, fun i hi => z6 i (fun e => by simp only [List.mem_cons, List.not_mem_nil, or_false] at e hi; omega), kq.1.1, kq.1.2, z16, kq.2⟩
  have tpe : tpl N4 = tpl N2 := tpl_e (z6 19 (by decide)) (z3 154 (by decide))
  have sge : sgl N4 = sgl N2 := sgl_e (z6 17 (by decide)) (z3 152 (by decide))
  have RT : ∀ r, 0 ≤ r → r < nr → RT2 M4 N4 r := fun r r0 r1 => by
    have k := rk r r0 (by (clear hn0 hn h4 hw hro hbN hb9 hb69 hag h7 hF hO hV hW r9 r69 e69 m1 hV2 hW2 XA a69 a9 a53 hq218 QA1 tka tha S0 g1n S2 e102 RP kp ln ga sy hq d50 d52 XP2 QP2 m29 m53 m54 m536 hE2 tk2 n13 r9' s9' t9' m12 f17 ga2 f0 m18 b51 hV3 hW3 w21 y X4 PX nr10 hmm lsq rk rr_ go3 z z6 z16 kq gq4 go4 z3 PQ tpe sge r0; omega))
    refine RT2_of tk2 (RP.1 r r0 r1) s9' (y 70 (by decide)) (y 73 (by decide)) (X4 r r0 r1) (fun k hk => z3 k (fun e => by simp only [List.mem_cons, List.not_mem_nil, or_false] at e hk; (clear hn0 hn h4 hw hro hbN hb9 hb69 hag h7 hF hO hV hW r9 r69 e69 m1 hV2 hW2 XA a69 a9 a53 hq218 QA1 tka tha S0 g1n S2 e102 RP kp ln ga sy hq d50 d51 d52 XP2 QP2 m29 m53 m54 m536 hE2 tk2 n13 r9' s9' t9' m12 f17 ga2 f0 m18 b51 hV3 hW3 w21 y X4 PX hnr q18 nr10 hmm lsq rk rr_ go3 z z6 z16 kq gq4 go4 z3 PQ tpe sge r0 r1; lia))) tpe (mm r) (hmm r r0 r1) ?_ ?_ ?_
    · rw [z 164 (by decide)]; exact k.2.2
    · rw [z 160 (by decide)]; exact k.1
    · rw [z 161 (by decide)]; exact k.2.1
  have e51 : M4 5 1 = nr := by rw [y 5 (by decide)]; exact d51
  have RT1' : RT1 M4 N4 := fun r r0 r1 => by
    have := RT r r0 (by (clear hn0 hn h4 hw hro hbN hb9 hb69 hag h7 hF hO hV hW r9 r69 e69 m1 hV2 hW2 XA a69 a9 a53 hq218 QA1 tka tha S0 g1n S2 e102 RP kp ln ga sy hq d50 d52 XP2 QP2 m29 m53 m54 m536 hE2 tk2 n13 r9' s9' t9' m12 f17 ga2 f0 m18 b51 hV3 hW3 w21 y X4 PX nr10 hmm lsq rk rr_ go3 z z6 z16 kq gq4 go4 z3 PQ tpe sge RT r0; lia))
    exact ⟨this.1.1, this.2.2.1⟩
  have ga3 := ga2.2.1
  have g2n : ((1000000000 - 9608 - M2 1 7).toNat : Int) = 1000000000 - 9608 - M2 1 7 := by (clear hn0 hn h4 hw hro hbN hb9 hb69 hag hF hO hV hW r9 r69 e69 m1 hV2 hW2 XA a69 a9 a53 hq218 QA1 tka tha S0 S2 e102 RP kp ln ga sy hq d50 d51 d52 XP2 QP2 m29 m53 m54 m536 hE2 tk2 n13 r9' s9' t9' m12 ga2 f0 m18 b51 hV3 hW3 w21 y X4 PX hnr q18 nr10 hmm lsq rk rr_ go3 z z6 z16 kq gq4 go4 z3 PQ tpe sge RT e51 RT1'; omega)
  have S4 : @SYS (ih_ (1000000000 - 9608 - M2 1 7).toNat (fun _ => 1000000) 0 0) 1 F' M4 N4 0 0 0 0 := SYS_2 _ _ S2 PX PQ ⟨m53.trans a53.1, m54.trans a53.2.1⟩ RP.2 RT1' (by
    show M2 1 7 + 9608 ≤ 1000000000 - (((1000000000 - 9608 - M2 1 7).toNat : Nat) : Int)
    omega) (Int.le_refl _)
  have XA4 : XLd M M4 := XLd_P (XLd_P XA XP2) (fun k hk => y k (fun e => hk (by unfold xpL; simp only [List.mem_cons, List.not_mem_nil, or_false] at e ⊢; (clear hn0 hn h4 hw hro hbN hb9 hb69 hag h7 hF hO hV hW r9 r69 e69 m1 hV2 hW2 XA a69 a9 a53 hq218 QA1 tka tha S0 g1n S2 e102 RP kp ln ga sy hq d50 d51 d52 XP2 QP2 m29 m53 m54 m536 hE2 tk2 n13 r9' s9' t9' m12 f17 ga2 f0 m18 b51 hV3 hW3 w21 y X4 PX hnr q18 nr10 hmm lsq rk rr_ go3 z z6 z16 kq gq4 go4 z3 PQ tpe sge RT e51 RT1' ga3 g2n S4 hk; lia))))
  have QA4 : QLd N N4 := QLd_P (QLd_P QA1 QP2) ⟨fun k hk => z3 k (fun e => hk (by simp only [List.mem_cons, List.not_mem_nil, or_false] at e; unfold QPRr; (clear hn0 hn h4 hw hro hbN hb9 hb69 hag h7 hF hO hV hW r9 r69 e69 m1 hV2 hW2 XA a69 a9 a53 hq218 QA1 tka tha S0 g1n S2 e102 RP kp ln ga sy hq d50 d51 d52 XP2 QP2 m29 m53 m54 m536 hE2 tk2 n13 r9' s9' t9' m12 f17 ga2 f0 m18 b51 hV3 hW3 w21 y X4 PX hnr q18 nr10 hmm lsq rk rr_ go3 z z6 z16 kq gq4 go4 z3 PQ tpe sge RT e51 RT1' ga3 g2n S4 XA4 hk; lia))), fun i hi => z6 i (fun e => hi (by simp only [qpI, List.mem_cons, List.not_mem_nil, or_false] at e ⊢; (clear hn0 hn h4 hw hro hbN hb9 hb69 hag h7 hF hO hV hW r9 r69 e69 m1 hV2 hW2 XA a69 a9 a53 hq218 QA1 tka tha S0 g1n S2 e102 RP kp ln ga sy hq d50 d51 d52 XP2 QP2 m29 m53 m54 m536 hE2 tk2 n13 r9' s9' t9' m12 f17 ga2 f0 m18 b51 hV3 hW3 w21 y X4 PX hnr q18 nr10 hmm lsq rk rr_ go3 z z6 z16 kq gq4 go4 z3 PQ tpe sge RT e51 RT1' ga3 g2n S4 XA4 hi; lia)))⟩
  have i4 : GRF M4 N4 M4 N4 0 0 := ⟨GRX_0 ⟨kq.2.1, kq.2.2.2.1, kq.2.2.2.2.1⟩ w21, ⟨XPb_rf, rfl⟩, QPb_rf⟩
  refine l_25b (ig := ih_ (1000000000 - 9608 - M2 1 7).toNat (fun _ => 1000000) 0 0) (dq := dq) (I := GRF M4 N4) (M0 := M4) (N0 := N4) ⟨rfl, rfl, fun _ => rfl⟩ hV3 hW3 (fun r r0 r1 => ?_) GRF_1 GRF_R (GRF_2 (ig := ih_ (1000000000 - 9608 - M2 1 7).toNat (fun _ => 1000000) 0 0)) m 0 F' 0 0 0 1 M4 N4 S4 FIX_rf (SYG_c y z3 _ _ _ _ _ sy) i4 (fun M5 N5 a5 S5 e5 F5 I5 gr hq5 => ?_)
  · rw [y 55 (by decide)]
    exact RTX_c2 (X4 r r0 (by omega)) (fun _ _ => rfl) sge tpe (z3 151 (by decide))
  -- the end of pass 2
  have hE5 := S5.1.1.2.1
  have nr5 := hE5.2.2.2.2.2.2.2.2.2.2.1
  have kF := G1_fin (G1A_c y (z3 151 (by decide)) (by rw [y 5 (by decide), d52]; exact ga)) gr nr5.2.1
  obtain ⟨e14, e15⟩ := NR_eq (ig := ih_ (1000000000 - 9608 - M2 1 7).toNat (fun _ => 1000000) 0 0) nr5 kF
  have f5 : M5 1 7 + 8 * (1201 - a5) ≤ 1000000000 - (((1000000000 - 9608 - M2 1 7).toNat : Nat) : Int) := S5.1.2.2.2.2.1.2.2.1
  have f50 : 0 ≤ M5 1 7 := hE5.2.2.2.2.2.2.2.2.2.2.2.1
  have ga5 := hE5.1.2.1
  have f57 : 0 ≤ M5 1 7 ∧ M5 1 7 ≤ M 1 7 + 30000 := by have := ga2.2.1; (clear hn0 hn h4 hw hro hbN hb9 hb69 hag h7 hF hO hV hW r9 r69 e69 m1 hV2 hW2 XA a69 a9 a53 hq218 QA1 tka tha S0 S2 e102 RP kp ln ga sy hq d50 d51 d52 XP2 QP2 m29 m53 m54 m536 hE2 tk2 n13 r9' s9' t9' m12 ga2 f0 m18 b51 hV3 hW3 w21 y X4 PX hnr q18 nr10 hmm lsq rk rr_ go3 z z6 z16 kq gq4 go4 z3 PQ tpe sge RT e51 RT1' S4 XA4 QA4 i4 S5 e5 F5 I5 gr hq5 hE5 nr5 kF e14 e15 this; lia)
  have XA5 : XLd M M5 := XLd_P XA4 I5.2.1.1
  have QA5 : QLd N N5 := QLd_P QA4 I5.2.2
  have c69 : M5 69 = cp_ (M 9) (M 69) n := by rw [I5.2.1.1 69 (by decide), y 69 (by decide), XP2 69 (by decide)]; exact a69
  have toQ : ∀ (G : Int → mm_ → Prop) (Qtq : qt_), (N5 6 13 = 0 → G 1 (up_ N5 6 16 0)) → (N5 6 13 ≠ 0 → G 0 (up_ N5 6 16 0)) → Tr_ wd0 pg0 (dq + 21) 218 [.inr (.inr 6)] N (ri_ G) Qtq := fun G Qtq h1 h0 => hq218 G Qtq (hq _ Qtq (by
    unfold qRS
    rw [if_pos (by (clear hn0 hn h4 hw hro hbN hb9 hb69 hag h7 hF hO hV hW r9 r69 e69 m1 hV2 hW2 XA a69 a9 a53 hq218 QA1 tka tha S0 g1n S2 e102 RP kp ln ga sy hq d50 d51 d52 XP2 QP2 m29 m53 m54 m536 hE2 tk2 r9' s9' t9' m12 f17 ga2 f0 m18 b51 hV3 hW3 w21 y X4 PX hnr q18 nr10 hmm lsq rk rr_ go3 z z6 z16 kq gq4 go4 z3 PQ tpe sge RT e51 RT1' ga3 g2n S4 XA4 QA4 i4 S5 e5 F5 I5 gr hq5 hE5 nr5 kF e14 e15 f5 f50 ga5 f57 XA5 QA5 c69 h1 h0; omega))]
    refine go3 _ _ ⟨.inr rfl, go4 _ _ (hq5 _ _ ⟨.inl rfl, ?_⟩)⟩
    by_cases c : N5 6 13 = 0
    · rw [if_pos c]; exact ⟨.inr rfl, ri_i (h1 c)⟩
    · rw [if_neg c]; exact ⟨.inl rfl, ri_i (h0 c)⟩))
  have th5 : TKN M5 N5 := TKN_c tha (fun r h0 h1 => by
    rw [I5.2.1.1 r (fun e => by unfold xpL at e; simp only [List.mem_cons, List.not_mem_nil, or_false] at e; (clear hn0 hn h4 hw hro hbN hb9 hb69 hag h7 hF hO hV hW r9 r69 e69 m1 hV2 hW2 XA a69 a9 a53 hq218 QA1 tka tha S0 g1n S2 e102 RP kp ln ga sy hq d50 d51 d52 XP2 QP2 m29 m53 m54 m536 hE2 tk2 n13 r9' s9' t9' m12 f17 ga2 f0 m18 b51 hV3 hW3 w21 y X4 PX hnr q18 nr10 hmm lsq rk rr_ go3 z z6 z16 kq gq4 go4 z3 PQ tpe sge RT e51 RT1' ga3 g2n S4 XA4 QA4 i4 S5 e5 F5 I5 gr hq5 hE5 nr5 kF e14 e15 f5 f50 ga5 f57 XA5 QA5 c69 toQ; omega)), y r (fun e => by simp only [List.mem_cons, List.not_mem_nil, or_false] at e; (clear hn0 hn h4 hw hro hbN hb9 hb69 hag h7 hF hO hV hW r9 r69 e69 m1 hV2 hW2 XA a69 a9 a53 hq218 QA1 tka tha S0 g1n S2 e102 RP kp ln ga sy hq d50 d51 d52 XP2 QP2 m29 m53 m54 m536 hE2 tk2 n13 r9' s9' t9' m12 f17 ga2 f0 m18 b51 hV3 hW3 w21 y X4 PX hnr q18 nr10 hmm lsq rk rr_ go3 z z6 z16 kq gq4 go4 z3 PQ tpe sge RT e51 RT1' ga3 g2n S4 XA4 QA4 i4 S5 e5 F5 I5 gr hq5 hE5 nr5 kF e14 e15 f5 f50 ga5 f57 XA5 QA5 c69 toQ; omega)), XP2 r (fun e => by unfold xpL at e; simp only [List.mem_cons, List.not_mem_nil, or_false] at e; omega)]) (by
    rw [I5.2.2.1 151 (by unfold QPRr; (clear hn0 hn h4 hw hro hbN hb9 hb69 hag h7 hF hO hV hW r9 r69 e69 m1 hV2 hW2 XA a69 a9 a53 hq218 QA1 tka tha S0 g1n S2 e102 RP kp ln ga sy hq d50 d51 d52 XP2 QP2 m29 m53 m54 m536 hE2 tk2 n13 r9' s9' t9' m12 f17 ga2 f0 m18 b51 hV3 hW3 w21 y X4 PX hnr q18 nr10 hmm lsq rk rr_ go3 z z6 z16 kq gq4 go4 z3 PQ tpe sge RT e51 RT1' ga3 g2n S4 XA4 QA4 i4 S5 e5 F5 I5 gr hq5 hE5 nr5 kF e14 e15 f5 f50 ga5 f57 XA5 QA5 c69 toQ; omega)), z3 151 (by decide), QP2.1 151 (by unfold QPRr; (clear hn0 hn h4 hw hro hbN hb9 hb69 hag h7 hF hO hV hW r9 r69 e69 m1 hV2 hW2 XA a69 a9 a53 hq218 QA1 tka tha S0 g1n S2 e102 RP kp ln ga sy hq d50 d51 d52 XP2 QP2 m29 m53 m54 m536 hE2 tk2 n13 r9' s9' t9' m12 f17 ga2 f0 m18 b51 hV3 hW3 w21 y X4 PX hnr q18 nr10 hmm lsq rk rr_ go3 z z6 z16 kq gq4 go4 z3 PQ tpe sge RT e51 RT1' ga3 g2n S4 XA4 QA4 i4 S5 e5 F5 I5 gr hq5 hE5 nr5 kF e14 e15 f5 f50 ga5 f57 XA5 QA5 c69 toQ; omega))])
  by_cases c : M5 1 4 = 0
  · rw [if_pos c]
    have fx := F5.2.1
    rw [← fx.1, ← fx.2.1, ← fx.2.2] at S5
    have n170 : ∀ T, 0 ≤ T → T < M5 5 2 → N5 170 T ≤ N5 171 T := fun T T0 T1 => by
      have ty := F5.2.2.2.2 T T0 (by rw [← fx.2.2]; exact T1)
      have p := (S5.1.2.1.2.1.2.2 rfl T T0 T1).1
      have q := (S5.1.2.2.1 T T0 T1).1.1.2.2
      have r := RP.2 T T0 (by rw [fx.2.2, y 5 (by decide), d52] at T1; exact T1)
      rw [ty.2.1.1, y 122 (by decide)] at p
      rw [ty.2.2.1.2, y 124 (by decide)] at q
      (clear hn0 hn h4 hw hro hbN hb9 hb69 hag h7 hF hO hV hW r9 r69 e69 m1 hV2 hW2 XA a69 a9 a53 hq218 QA1 tka tha S0 g1n S2 e102 RP kp ln ga sy hq d50 d51 d52 XP2 QP2 m29 m53 m54 m536 hE2 tk2 n13 r9' s9' t9' m12 f17 ga2 f0 m18 b51 hV3 hW3 w21 y X4 PX hnr q18 nr10 hmm lsq rk rr_ go3 z z6 z16 kq gq4 go4 z3 PQ tpe sge RT e51 RT1' ga3 g2n S4 XA4 QA4 i4 S5 e5 F5 I5 gr hq5 hE5 nr5 kF e14 e15 f5 f50 ga5 f57 XA5 QA5 c69 toQ th5 c fx T0 T1 ty; omega)
    refine Tr_m (hO M5 N5 XA5 c69 QA5 ⟨_, F', a5, ⟨S5, e5⟩, by rw [fx.2.2, fx.2.1]; exact I5.1, fun r r0 r1 => RT2_fx (RT r r0 (by rw [fx.2.1] at r1; (clear hn0 hn h4 hw hro hbN hb9 hb69 hag h7 hF hO hV hW r9 r69 e69 m1 hV2 hW2 XA a69 a9 a53 hq218 QA1 tka tha S0 g1n S2 e102 RP kp ln ga sy hq d50 d52 XP2 QP2 m29 m53 m54 m536 hE2 tk2 n13 r9' s9' t9' m12 f17 ga2 f0 m18 b51 hV3 hW3 w21 y X4 PX nr10 hmm lsq rk rr_ go3 z z6 z16 kq gq4 go4 z3 PQ tpe sge RT RT1' ga3 g2n S4 XA4 QA4 i4 S5 e5 F5 I5 gr hq5 hE5 nr5 kF e14 e15 f5 f50 ga5 f57 XA5 QA5 c69 toQ th5 c n170 r0; lia))) F5, by rw [← e14]; exact c, by rw [I5.2.1.2, y 5 (by decide), m536]; exact a53.2.2, n170, th5⟩ c f57 (fun G Qtq hg => toQ G Qtq (fun _ => hg) (fun h => absurd (e14 ▸ c) h)) _) (fun vs M' h => ?_) (fun r M' h => h)
    obtain ⟨h1, h2⟩ := h
    exact ⟨h1, ri_i h2⟩
  · rw [if_neg c]
    refine ri_i (hF M5 XA5 c69 (fun G Qtq hg => toQ G Qtq (fun h => absurd (e14.trans h) c) (fun _ => hg _ ⟨QLd_16 QA5, ⟨c, ?_, ?_⟩, f57⟩)))
    · rw [up_of2 (by decide)]; exact e14.symm
    · rw [up_of2 (by decide)]; exact (e15 c).symm
end Y1
end T319_y1
section T320_wn
/-! warnings behind a clean parse: X 179 | Q 316 -/
def W0 (M N : mm_) : Prop :=
  (M 1 2 = 5 ∧ (M 5 0 = N 6 17 ∧ 0 ≤ N 6 17 ∧ N 6 17 ≤ 20) ∧ (M 5 1 = N 6 18 ∧ 0 ≤ N 6 18 ∧ N 6 18 ≤ 10) ∧ (M 5 2 = N 6 19 ∧ 0 ≤ N 6 19 ∧ N 6 19 ≤ 6) ∧ M 5 36 = 0)
  ∧ (∀ r, 0 ≤ r → r < N 6 18 → M 119 r = N 164 r ∧ 0 ≤ N 164 r ∧ N 164 r < 1048576)
  ∧ ((0 ≤ M 1 21 ∧ M 1 21 < 1048576) ∧ (0 ≤ M 1 22 ∧ M 1 22 < 1048576) ∧ 0 ≤ M 1 23 ∧ M 1 23 < 64)
  ∧ (∀ s, 0 ≤ s → s < N 6 17 → ((bt_ (M 1 21) s ∨ ∃ r, (0 ≤ r ∧ r < N 6 18) ∧ M 114 (2 * r) = -2 ∧ bt_ (M 119 r) s) ↔ SNT N s) ∧ ((bt_ (M 1 22) s ∨ ∃ r, (0 ≤ r ∧ r < N 6 18) ∧ M 114 (2 * r + 1) = -2 ∧ bt_ (M 119 r) s) ↔ HRD N s) ∧ (0 ≤ M 56 s ∧ M 56 s < 1202) ∧ M 71 (M 56 s) = N 155 s)
  ∧ (∀ T, 0 ≤ T → T < N 6 19 → ((M 123 T = N 174 T ∧ 0 ≤ N 174 T ∧ N 174 T ≤ 12) ∧ (M 128 T = N 175 T ∧ 0 ≤ N 175 T ∧ N 175 T ≤ 10)) ∧ (∀ l, 0 ≤ l → l < N 174 T → (an_ (sr_ (M 67 T) l) 1 = 0 ↔ CMT N T l) ∧ (0 ≤ M 59 (12 * T + l) ∧ M 59 (12 * T + l) < 1202) ∧ M 71 (M 59 (12 * T + l)) = N 186 (12 * T + l))
    ∧ (((M 120 T ≠ 0 ∨ bt_ (M 1 23) T) ↔ MAD N T) ∧ (0 ≤ M 58 T ∧ M 58 T < 1202) ∧ M 71 (M 58 T) = N 167 T) ∧ (∀ l, 0 ≤ l → l < N 175 T → (an_ (sr_ (M 68 T) l) 1 = 0 ↔ JND N T l) ∧ (0 ≤ M 62 (10 * T + l) ∧ M 62 (10 * T + l) < 1202) ∧ M 71 (M 62 (10 * T + l)) = N 187 (10 * T + l)) ∧ BTT N T (N 6 76).toNat)
  ∧ ((0 ≤ N 6 75 ∧ N 6 75 ≤ 1300) ∧ (0 ≤ N 6 62 ∧ N 6 62 ≤ 1300) ∧ ∀ k, 0 ≤ k → k < N 6 62 → 0 ≤ N 198 k ∧ N 199 k ≤ 1300)
theorem tpl_ge (N : mm_) (v : Int) : -1 ≤ tpl N v := by
  unfold tpl
  rcases fi_r (fun i => N 154 i) v (N 6 19).toNat 0 with e | e
  · rw [e]; decide
  · omega
section WNa
variable {M N N1 : mm_}
theorem W0_of (h : PLA M N) : W0 M N := by
  obtain ⟨ii, F, a, ⟨S, e102⟩, G, RT, n13, m536, _⟩ := h
  obtain ⟨⟨⟨tk, hE, m12⟩, ⟨sg, pr, rt, r1, gl⟩, ty, _, cs, sr⟩, _, cnt⟩ := S
  obtain ⟨g1, g2, g3, g4⟩ := G.1 n13
  have gE := hE.1
  have ha : a ≤ 1200 := gE.2.1
  obtain ⟨⟨c1, c2, c3⟩, c4, c5, c6, c7, c8, c9, c10⟩ := cs
  have s9 := sg.1
  have t9 := pr.1
  have gdr : ∀ u, nm9_ M u → 0 ≤ u ∧ u < 1202 := fun u hu => by have h1 := hu.1.1; have h2 := hu.1.2.1; (clear e102 G RT n13 m536 tk hE m12 sg pr rt r1 gl ty sr cnt g1 g2 g3 g4 gE ha c1 c2 c3 c4 c5 c6 c7 c8 c9 c10 s9 t9 hu; omega)
  refine ⟨⟨m12, by have := s9.1; (clear e102 G RT n13 m536 tk hE m12 sg pr rt r1 gl ty sr cnt g1 g2 g3 g4 gE ha c1 c2 c3 c4 c5 c6 c7 c8 c9 c10 s9 t9 gdr; omega), by have := rt.1; (clear e102 G RT n13 m536 tk hE m12 sg pr rt r1 gl ty sr cnt g1 g2 g3 g4 gE ha c1 c2 c3 c4 c5 c6 c7 c8 c9 c10 s9 t9 gdr; omega), by have := t9.1; (clear e102 G RT n13 m536 tk hE m12 sg pr rt r1 gl ty sr cnt g1 g2 g3 g4 gE ha c1 c2 c3 c4 c5 c6 c7 c8 c9 c10 s9 t9 gdr; omega), m536⟩, fun r r0 r1 => ?_, ⟨c7.1 rfl, g4.2.1, c7.2 rfl⟩, fun s s0 s1 => ?_, fun T T0 T1 => ?_, by (clear e102 G RT n13 m536 tk hE m12 sg pr rt r1 gl ty sr cnt g1 g2 g3 g4 gE c2 c3 c4 c5 c6 c7 c8 c9 c10 s9 t9 gdr; omega), by (clear e102 G RT n13 m536 tk hE m12 sg pr rt r1 gl ty sr cnt g1 g2 g3 g4 gE c1 c2 c3 c4 c5 c6 c7 c8 c10 s9 t9 gdr; omega), fun k k0 k1 => ?_⟩
  · have := RT r r0 (by have := rt.1; (clear e102 G RT n13 m536 tk hE m12 sg pr rt gl ty sr cnt g1 g2 g3 g4 gE ha c1 c2 c3 c4 c5 c6 c7 c8 c9 c10 s9 t9 gdr r0; omega))
    exact this.2.2.1
  · have s1' : s < M 5 0 := by have := s9.1; (clear e102 G RT n13 m536 tk hE m12 sg pr rt r1 gl ty sr cnt g1 g2 g3 g4 gE ha c1 c2 c3 c4 c5 c6 c7 c8 c9 c10 s9 t9 gdr s0; omega)
    have s20 : s < 20 := by have := s9.1; (clear e102 G RT n13 m536 tk hE m12 sg pr rt r1 gl ty sr cnt g1 g2 g3 g4 gE ha c1 c2 c3 c4 c5 c6 c7 c8 c9 c10 s9 t9 gdr s0 s1'; omega)
    have nm := (s9.2 s s0 s1').1
    refine ⟨?_, ?_, gdr _ nm, (gl.2.2.2.1 s s0 s1').symm⟩
    · unfold SNT
      rw [g4.1.1 s s0 s20]
      constructor
      · rintro (h | ⟨r, hr, e1, e2⟩)
        · exact .inl h
        · have R := RT r hr.1 (by have := rt.1; (clear e102 G RT n13 m536 tk hE m12 sg pr rt r1 gl ty sr cnt g1 g2 g3 g4 gE ha c1 c2 c3 c4 c5 c6 c7 c8 c9 c10 s9 t9 gdr s0 s1 s1' s20 nm e1 e2; omega))
          have kn := (G.2 n13 r hr.1 (by have := rt.1; omega)).1
          refine .inr ⟨r, hr, ?_, by rw [← R.2.2.1.1]; exact e2⟩
          rw [R.1.2]
          rw [R.1.1] at e1 kn
          by_cases c : N 158 r = 0
          · rw [if_pos c]
          · rw [if_neg c] at e1 ⊢
            have := tpl_ge N (N 158 r)
            omega
      · rintro (h | ⟨r, hr, e1, e2⟩)
        · exact .inl h
        · have R := RT r hr.1 (by have := rt.1; omega)
          have kn := (G.2 n13 r hr.1 (by have := rt.1; omega)).1
          refine .inr ⟨r, hr, ?_, by rw [R.2.2.1.1]; exact e2⟩
          rw [R.1.2] at e1
          rw [R.1.1] at kn ⊢
          by_cases c : N 158 r = 0
          · rw [if_pos c]
          · rw [if_neg c] at e1 kn; (clear e102 G RT n13 m536 tk hE m12 sg pr rt r1 gl ty sr cnt g1 g2 g3 g4 gE ha c1 c2 c3 c4 c5 c6 c7 c8 c9 c10 s9 t9 gdr s0 s1 s1' s20 nm hr e2 R; omega)
    · unfold HRD
      rw [g4.2.2 s s0 s20]
      constructor
      · rintro (h | ⟨r, hr, e1, e2⟩)
        · exact .inl h
        · have R := RT r hr.1 (by have := rt.1; omega)
          refine .inr ⟨r, hr, ?_, by rw [← R.2.2.1.1]; exact e2⟩
          rw [R.2.1.2]
          rw [R.2.1.1] at e1
          by_cases c : N 159 r = 0
          · rw [if_pos c]
          · rw [if_neg c] at e1 ⊢
            have := tpl_ge N (N 159 r)
            (clear e102 G RT n13 m536 tk hE m12 sg pr rt r1 gl ty sr cnt g1 g2 g3 g4 gE ha c1 c2 c3 c4 c5 c6 c7 c8 c9 c10 s9 t9 gdr s0 s1 s1' s20 nm hr e2 R c; omega)
      · rintro (h | ⟨r, hr, e1, e2⟩)
        · exact .inl h
        · have R := RT r hr.1 (by have := rt.1; omega)
          have kn := (G.2 n13 r hr.1 (by have := rt.1; omega)).2.1
          refine .inr ⟨r, hr, ?_, by rw [R.2.2.1.1]; exact e2⟩
          rw [R.2.1.2] at e1
          rw [R.2.1.1] at kn ⊢
          by_cases c : N 159 r = 0
          · rw [if_pos c]
          · rw [if_neg c] at e1 kn; (clear e102 G RT n13 m536 tk hE m12 sg pr rt r1 gl ty sr cnt g1 g2 g3 g4 gE ha c1 c2 c3 c4 c5 c6 c7 c8 c9 c10 s9 t9 gdr s0 s1 s1' s20 nm hr e2 R; lia)
  · have T1' : T < M 5 2 := by have := t9.1; (clear e102 G RT n13 m536 tk hE m12 sg pr rt r1 gl ty sr cnt g1 g2 g3 g4 gE ha c1 c2 c3 c4 c5 c6 c7 c8 c9 c10 s9 t9 gdr T0; omega)
    have T6 : T < 6 := by have := t9.1; (clear e102 G RT n13 m536 tk hE m12 sg pr rt r1 gl ty sr cnt g1 g2 g3 g4 gE ha c1 c2 c3 c4 c5 c6 c7 c8 c9 c10 s9 t9 gdr T0 T1'; omega)
    obtain ⟨y1, y2, y3, y4, y5, y6⟩ := ty T T0 T1'
    obtain ⟨_, q0, n, c, j, w1, ⟨w2, w3⟩, ⟨w4, w5⟩, ⟨w6, w7⟩, w8, w9, w10⟩ := g2 T T0 T1'
    have cn := cnt T T0 T1'
    have n12 := y3.1
    have wm := wM_12 n12.2.1
    have nm := (t9.2 T T0 T1').1
    refine ⟨⟨by (clear e102 G RT n13 m536 tk hE m12 sg pr rt r1 gl ty sr cnt g1 g2 g3 g4 gE ha c1 c2 c3 c4 c5 c6 c7 c8 c9 c10 s9 t9 gdr T0 T1 T1' T6 y1 y2 y3 y4 y5 y6 w1 w2 w3 w4 w5 w6 w7 w8 w9 w10 cn wm nm; omega), by have := y5.1.1; (clear e102 G RT n13 m536 tk hE m12 sg pr rt r1 gl ty sr cnt g1 g2 g3 g4 gE ha c1 c2 c3 c4 c5 c6 c7 c8 c9 c10 s9 t9 gdr T0 T1 T1' T6 y1 y2 y3 y4 y5 y6 w1 w2 w3 w4 w5 w6 w7 w8 w9 w10 cn n12 wm nm; omega)⟩, fun l l0 l1 => ?_, ⟨?_, gdr _ nm, y6.symm⟩, fun l l0 l1 => ?_, ?_⟩
    · have nl := (y3.2 l l0 (by (clear e102 G RT n13 m536 tk hE m12 sg pr rt r1 gl ty sr cnt g1 g2 g3 g4 gE ha c1 c2 c3 c4 c5 c6 c7 c8 c9 c10 s9 t9 gdr T0 T1 T1' T6 y1 y2 y3 y4 y5 y6 w1 w2 w3 w4 w5 w6 w7 w8 w9 w10 cn wm nm l0; omega))).1
      refine ⟨?_, gdr _ nl, (y4 l l0 (by omega)).symm⟩
      rw [w2, an_srn w5.1 (by omega) l0 (by (clear e102 G RT n13 m536 tk hE m12 sg pr rt r1 gl ty sr cnt g1 g2 g3 g4 gE ha c1 c2 c3 c4 c5 c6 c7 c8 c9 c10 s9 t9 gdr T0 T1 T1' T6 y1 y2 y3 y4 y5 y6 w1 w2 w3 w4 w5 w6 w7 w8 w9 w10 cn wm nm l0 nl; omega)), w4 l l0]
      exact (CMT_i w8 w1).symm
    · unfold MAD
      rw [g4.1.2 T T0 T6, cn.1.1]
      constructor
      · rintro (h | h)
        · exact .inl (by have := cn.2.1; (clear e102 G RT n13 m536 tk hE m12 sg pr rt r1 gl ty sr cnt g1 g2 g3 g4 gE ha c1 c2 c3 c4 c5 c6 c7 c8 c9 c10 s9 t9 gdr T0 T1 T1' T6 y1 y2 y3 y4 y5 y6 w1 w2 w3 w4 w5 w6 w7 w8 w9 w10 cn n12 wm nm; omega))
        · exact .inr h
      · rintro (h | h)
        · exact .inl (by (clear e102 G RT n13 m536 tk hE m12 sg pr rt r1 gl ty sr cnt g1 g2 g3 g4 gE ha c1 c2 c3 c4 c5 c6 c7 c8 c9 c10 s9 t9 gdr T0 T1 T1' T6 y1 y2 y3 y4 y5 y6 w1 w2 w3 w4 w5 w6 w7 w8 w9 w10 cn n12 wm nm; omega))
        · exact .inr h
    · have nl := (y5.1.2 l l0 (by have := y5.1.1; (clear e102 G RT n13 m536 tk hE m12 sg pr rt r1 gl ty sr cnt g1 g2 g3 g4 gE ha c1 c2 c3 c4 c5 c6 c7 c8 c9 c10 s9 t9 gdr T0 T1 T1' T6 y1 y2 y3 y4 y5 y6 w1 w2 w3 w4 w5 w6 w7 w8 w9 w10 cn n12 wm nm l0; omega))).1
      refine ⟨?_, gdr _ nl, ((y5.2 l l0 (by have := y5.1.1; omega)).1).symm⟩
      rw [w3, an_srn w7.1 (by (clear e102 G RT n13 m536 tk hE m12 sg pr rt r1 gl ty sr cnt g1 g2 g3 g4 gE ha c1 c2 c3 c4 c5 c6 c7 c8 c9 c10 s9 t9 gdr T0 T1 T1' T6 y1 y2 y3 y4 y5 y6 w1 w2 w3 w4 w5 w6 w8 w9 w10 cn n12 wm nm l0 l1 nl; omega)) l0 (by have := y5.1.1; (clear e102 G RT n13 m536 tk hE m12 sg pr rt r1 gl ty sr cnt g1 g2 g3 g4 gE ha c1 c2 c3 c4 c5 c6 c7 c8 c9 c10 s9 t9 gdr T0 T1 T1' T6 y1 y2 y3 y4 y5 y6 w1 w2 w3 w4 w5 w6 w7 w8 w9 w10 cn n12 wm nm l0 nl; omega)), w6 l l0]
      unfold JND InT
      constructor
      · rintro ⟨me, h1, h2⟩; exact ⟨me, ⟨by (clear e102 G RT n13 m536 tk hE m12 sg pr rt r1 gl ty sr cnt g1 g2 g3 g4 gE ha c1 c2 c3 c4 c5 c6 c7 c8 c9 c10 s9 t9 gdr T0 T1 T1' T6 y1 y2 y3 y4 y5 y6 w2 w3 w4 w5 w6 w7 w8 w9 w10 cn n12 wm nm l0 l1 nl h2; omega), (w8 me (by (clear e102 G RT n13 m536 tk hE m12 sg pr rt r1 gl ty sr cnt g1 g2 g3 g4 gE ha c1 c2 c3 c4 c5 c6 c7 c8 c9 c10 s9 t9 gdr T0 T1 T1' T6 y1 y2 y3 y4 y5 y6 w2 w3 w4 w5 w6 w7 w8 w9 w10 cn n12 wm nm l0 l1 nl h2; omega)) (by (clear e102 G RT n13 m536 tk hE m12 sg pr rt r1 gl ty sr cnt g1 g2 g3 g4 gE ha c1 c2 c3 c4 c5 c6 c7 c8 c9 c10 s9 t9 gdr T0 T1 T1' T6 y1 y2 y3 y4 y5 y6 w2 w3 w4 w5 w6 w7 w8 w9 w10 cn n12 wm nm l0 l1 nl h2; omega))).2 h1⟩, h2⟩
      · rintro ⟨me, ⟨h0, h1⟩, h2⟩; exact ⟨me, (w8 me h0.1 h0.2).1 h1, h2⟩
    · refine ⟨⟨by (clear e102 G RT n13 m536 tk hE m12 sg pr rt r1 gl ty sr cnt g1 g2 g3 g4 gE ha c1 c2 c3 c5 c6 c7 c8 c9 c10 s9 t9 gdr T0 T1 T1' T6 y1 y2 y3 y4 y5 y6 w1 w2 w3 w4 w5 w6 w7 w8 w9 w10 cn n12 wm nm; omega), by (clear e102 G RT n13 m536 tk hE m12 sg pr rt r1 gl ty sr cnt g1 g2 g3 g4 gE c1 c2 c3 c5 c6 c7 c8 c9 c10 s9 t9 gdr T0 T1 T1' T6 y1 y2 y3 y4 y5 y6 w1 w2 w3 w4 w5 w6 w7 w8 w9 w10 cn n12 wm nm; omega), T0, T6⟩, fun k hk => ?_, by have := y5.1.1; (clear e102 G RT n13 m536 tk hE m12 sg pr rt r1 gl ty sr cnt g1 g2 g3 g4 gE ha c1 c2 c3 c4 c5 c6 c7 c8 c9 c10 s9 t9 gdr T0 T1 T1' T6 y1 y2 y3 y4 y5 y6 w1 w2 w3 w4 w5 w6 w7 w8 w9 w10 cn n12 wm nm; omega), fun l l0 l1 => ?_⟩
      · have := w10 k ((w8 k hk.1.1 hk.1.2).1 hk.2).1 ((w8 k hk.1.1 hk.1.2).1 hk.2).2
        exact ⟨by (clear e102 G RT n13 m536 tk hE m12 sg pr rt r1 gl ty sr cnt g1 g2 g3 g4 gE ha c1 c2 c3 c4 c5 c6 c7 c8 c9 c10 s9 t9 gdr T0 T1 T1' T6 y1 y2 y3 y4 y5 y6 w1 w2 w3 w4 w6 w7 w8 w9 w10 cn n12 nm hk; omega), this.2.1, this.2.2⟩
      · have := w9 l l0 l1
        exact ⟨by (clear e102 G RT n13 m536 tk hE m12 sg pr rt r1 gl ty sr cnt g1 g2 g3 g4 gE ha c1 c2 c3 c4 c5 c6 c7 c8 c9 c10 s9 t9 gdr T0 T1 T1' T6 y1 y2 y3 y4 y5 y6 w2 w3 w4 w5 w6 w7 w8 w9 w10 cn n12 wm nm l0 l1; omega), (w8 _ (by (clear e102 G RT n13 m536 tk hE m12 sg pr rt r1 gl ty sr cnt g1 g2 g3 g4 gE ha c1 c2 c3 c4 c5 c6 c7 c8 c9 c10 s9 t9 gdr T0 T1 T1' T6 y1 y2 y3 y4 y5 y6 w2 w3 w4 w5 w6 w7 w8 w9 w10 cn n12 wm nm l0 l1; omega)) (by (clear e102 G RT n13 m536 tk hE m12 sg pr rt r1 gl ty sr cnt g1 g2 g3 g4 gE ha c1 c2 c3 c4 c5 c6 c7 c8 c9 c10 s9 t9 gdr T0 T1 T1' T6 y1 y2 y3 y4 y5 y6 w2 w3 w4 w5 w6 w7 w8 w9 w10 cn n12 wm nm l0 l1; omega))).2 this⟩
  · obtain ⟨⟨xs, hs⟩, hl⟩ := sr rfl
    have hk := (hs.2 k k0 k1).2.2.2.1
    have ag : agT N k = N 199 k := by
      unfold agT
      split
      · rename_i c; rw [c, hl (by (clear e102 G RT n13 m536 tk hE m12 sg pr rt r1 gl ty sr cnt g1 g2 g3 g4 gE ha c1 c2 c3 c4 c5 c6 c7 c8 c9 c10 s9 t9 gdr k1 hl hs hk; omega))]
      · rfl
    rw [ag] at hk
    (clear e102 G RT n13 m536 tk hE m12 sg pr rt r1 gl ty sr cnt g1 g2 g3 g4 gE c1 c2 c3 c4 c5 c6 c7 c8 c9 s9 t9 gdr k0 k1 hl hs; omega)
theorem W0_c (h : W0 M N) (hq : ∀ k : Nat, k ≠ 6 → k ≠ 147 → N1 k = N k) (h6 : ∀ i : Int, i ∉ [5, 6, 16, 126, 163] → N1 6 i = N 6 i) : W0 M N1 := by
  unfold W0 SNT HRD MAD JND CMT CM2 BTT InT at h ⊢
  rw [h6 17 (by decide), h6 18 (by decide), h6 19 (by decide), h6 62 (by decide), h6 75 (by decide), h6 76 (by decide), hq 155 (by decide) (by decide), hq 160 (by decide) (by decide), hq 161 (by decide) (by decide), hq 164 (by decide) (by decide), hq 167 (by decide) (by decide), hq 168 (by decide) (by decide), hq 174 (by decide) (by decide), hq 175 (by decide) (by decide), hq 186 (by decide) (by decide), hq 187 (by decide) (by decide), hq 189 (by decide) (by decide), hq 193 (by decide) (by decide), hq 198 (by decide) (by decide), hq 199 (by decide) (by decide), hq 200 (by decide) (by decide), hq 203 (by decide) (by decide), hq 205 (by decide) (by decide), hq 211 (by decide) (by decide), hq 212 (by decide) (by decide), hq 213 (by decide) (by decide), hq 214 (by decide) (by decide), hq 215 (by decide) (by decide)]
  exact h
/-- the two stacks of warnings are one -/
theorem y_wrn (h : W0 M N) : ∃ R : List (Int × Int), R.length ≤ 200 ∧ (∀ (d : Nat) (Kv : mm_ → Prop) (Qt : qt_), (∀ M', WXF M M' R → Kv M') → Tr_ wd0 pg0 (d + 2) 179 [.inr (.inr 1)] M (rv_ Kv) Qt) ∧ ∀ (d : Nat) (Kv : mm_ → Prop) (Qt : qt_), (∀ N', WQF N N' R → Kv N') → Tr_ wd0 pg0 (d + 2) 316 [.inr (.inr 6)] N (rv_ Kv) Qt := by
  haveI i0 : Inhabited gh_ := ⟨(0, fun _ => 0, 0, 0)⟩
  obtain ⟨⟨a1, a2, a3, a4, a5⟩, b1, b2, b3, b4, b5, b6, b7⟩ := h
  have e : ∀ x : Int, 0 ≤ x → ((x.toNat : Nat) : Int) = x := fun x h => by (clear a1 a2 a3 a4 a5 b1 b2 b3 b4 b5 b6 b7; lia)
  refine ⟨inA (sgL9 N (N 6 17).toNat) (inA (tyL N (fun T => (N 174 T).toNat) (fun T => (N 175 T).toNat) (N 6 19).toNat) []), ?_, fun d Kv Qt hk => ?_, fun d Kv Qt hk => ?_⟩
  · rw [inA_len, inA_len]
    have l1 : (sgL9 N (N 6 17).toNat).length ≤ 2 * (N 6 17).toNat := sgW_len _
    have l2 := tyW_len (C := CMT N) (J := JND N) (Md := MAD N) (p12 := fun T k => N 186 (12 * T + k)) (p10 := fun T k => N 187 (10 * T + k)) (pT := fun T => N 167 T) (ns := fun T => (N 174 T).toNat) (nl := fun T => (N 175 T).toNat) (N 6 19).toNat (fun T hT => by have := (b4 T (by (clear a1 a2 a3 a4 a5 b1 b2 b3 b4 b5 b6 b7 e l1 hT; lia)) (by (clear a1 a2 a3 a4 a5 b1 b2 b3 b4 b5 b6 b7 e l1; omega))).1; (clear a1 a2 a3 a4 a5 b1 b2 b3 b4 b5 b6 b7 e l1 hT; omega))
    have l3 : (tyL N (fun T => (N 174 T).toNat) (fun T => (N 175 T).toNat) (N 6 19).toNat).length ≤ 23 * (N 6 19).toNat := l2
    simp only [List.length_nil]
    (clear a1 a3 a5 b1 b2 b3 b4 b5 b6 b7 e l2; omega)
  · refine x_179 (n0 := (N 6 17).toNat) (n1 := (N 6 18).toNat) (n2 := (N 6 19).toNat) (ns := fun T => (N 174 T).toNat) (nl := fun T => (N 175 T).toNat) (U := SNT N) (W := HRD N) (C := CMT N) (J := JND N) (Md := MAD N) (pS := fun s => N 155 s) (p12 := fun T k => N 186 (12 * T + k)) (p10 := fun T k => N 187 (10 * T + k)) (pT := fun T => N 167 T) a1 (by (clear a1 a3 a4 a5 b1 b2 b3 b4 b5 b6 b7 e hk; lia)) (by (clear a1 a2 a4 a5 b1 b2 b3 b4 b5 b6 b7 e hk; lia)) (by (clear a1 a2 a3 a5 b1 b2 b3 b4 b5 b6 b7 e hk; lia)) a5 (fun r r0 r1 => ?_) ⟨b2.1, b2.2.1⟩ (fun s s0 s1 => ?_) (fun T T0 T1 => ?_) (fun T l T0 T1 l0 l1 => ?_) (fun T T0 T1 => ?_) (fun T l T0 T1 l0 l1 => ?_) (fun M' hm => hk M' (by rw [inA_swap]; exact hm))
    · have := b1 r r0 (by (clear a1 a2 a4 a5 b1 b2 b3 b4 b5 b6 b7 e hk r0; omega)); rw [this.1]; exact this.2
    · rw [e _ a3.2.1]; exact b3 s s0 (by (clear a1 a3 a4 a5 b1 b2 b3 b4 b5 b6 b7 e hk s0; omega))
    · have := (b4 T T0 (by (clear a1 a2 a3 a5 b1 b2 b3 b4 b5 b6 b7 e hk T0; omega))).1; omega
    · have t := (b4 T T0 (by (clear a1 a2 a3 a5 b1 b2 b3 b4 b5 b6 b7 e hk T0; lia))).2.1 l l0 (by have := (b4 T T0 (by omega)).1; (clear a1 a2 a3 a4 a5 b1 b2 b3 b4 b5 b6 b7 e hk T0 T1 l0; omega))
      exact t
    · have t := (b4 T T0 (by omega)).2.2.1
      exact ⟨t.1, t.2.1, t.2.2, b2.2.2⟩
    · have t := (b4 T T0 (by (clear a1 a2 a3 a5 b1 b2 b3 b4 b5 b6 b7 e hk T0; lia))).2.2.2.1 l l0 (by have := (b4 T T0 (by omega)).1; (clear a1 a2 a3 a4 a5 b1 b2 b3 b4 b5 b6 b7 e hk T0 T1 l0; omega))
      exact t
  · refine q_316 (n := (N 6 17).toNat) (n2 := (N 6 19).toNat) (nr := (N 6 18).toNat) (nc := (N 6 75).toNat) (nst := (N 6 62).toNat) (nt := (N 6 76).toNat) (ns := fun T => (N 174 T).toNat) (nl := fun T => (N 175 T).toNat) (by (clear a1 a3 a4 a5 b1 b2 b3 b4 b5 b6 b7 e hk; omega)) (by omega) (by (clear a1 a2 a3 a5 b1 b2 b3 b4 b5 b6 b7 e hk; lia)) (by (clear a1 a2 a4 a5 b1 b2 b3 b4 b5 b6 b7 e hk; lia)) (by (clear a1 a2 a3 a4 a5 b1 b2 b3 b4 b6 b7 e hk; lia)) (by (clear a1 a2 a3 a4 a5 b1 b2 b3 b4 b5 b7 e hk; lia)) (fun r r0 r1 => (b1 r r0 (by omega)).2) (fun k k0 k1 => b7 k k0 (by (clear a1 a2 a3 a4 a5 b1 b2 b3 b4 b5 b6 b7 e hk; omega))) (fun T T0 T1 => ?_) (fun T T0 T1 => (b4 T T0 (by omega)).2.2.2.2) hk
    have := (b4 T T0 (by omega)).1; (clear a1 a2 a3 a4 a5 b1 b2 b3 b4 b5 b6 b7 e hk T0 T1; omega)
end WNa
end T320_wn
section T330_ru
/-! the run: X's state and Q's -/
/-- a ghost: what a timeless run leaves as it is -/
def fz_ : Type := mm_
def fz [i : Inhabited fz_] : mm_ := i.default
def sB (k : Int) : Int := 2 + 56 * k
def sR (r : Int) : Int := 674 + 43 * r
/-- a timer: X's switch and time, Q's clock (z: times are nothing) -/
def TM (z on at_ c : Int) : Prop := (on = 1 ∧ (0 ≤ at_ ∧ at_ ≤ 2000000000) ∧ ((z = 0 ∧ c = at_) ∨ (z = 1 ∧ c = 0))) ∨ (on = 0 ∧ c = -1)
/-- an instance -/
def IN (z : Int) (M N : mm_) (k : Int) : Prop :=
  (M 10 k = N 239 (sB k) ∧ M 11 k = N 239 (sB k + 1) ∧ M 12 k = N 239 (sB k + 2) ∧ M 18 k = N 239 (sB k + 3) ∧ M 19 k = N 239 (sB k + 4) ∧ M 20 k = N 239 (sB k + 5))
  ∧ ((1 ≤ M 10 k ∧ M 10 k < M 0 8) ∧ (0 ≤ M 11 k ∧ M 11 k < N 6 19) ∧ (-1 ≤ M 12 k ∧ M 12 k < N 174 (M 11 k)))
  ∧ ((∀ i, 0 ≤ i → i < 16 → M 13 (16 * k + i) = N 239 (sB k + 6 + i)) ∧ (∀ i, N 172 (M 11 k) ≤ i → 0 ≤ i → i < 16 → N 239 (sB k + 6 + i) = 0))
  ∧ (∀ t, 0 ≤ t → t < 3 → TM z (M 16 (3 * k + t)) (M 17 (3 * k + t)) (N 239 (sB k + 22 + t)) ∧ (N 173 (M 11 k) ≤ t → M 16 (3 * k + t) = 0))
  ∧ ((0 ≤ M 14 k ∧ M 14 k ≤ 6 ∧ N 239 (sB k + 25) = M 14 k) ∧ (∀ i, 0 ≤ i → i < 5 * M 14 k → M 15 (30 * k + i) = N 239 (sB k + 26 + i)) ∧ ∀ i, 5 * M 14 k ≤ i → i < 30 → N 239 (sB k + 26 + i) = 0)
/-- a route's row -/
def RO (z : Int) (M N : mm_) (r : Int) : Prop :=
  (0 ≤ M 21 r ∧ M 21 r ≤ 6 ∧ N 239 (sR r) = M 21 r)
  ∧ (∀ q, 0 ≤ q → q < M 21 r → (∀ j, 0 ≤ j → j < 7 → j ≠ 3 → M 22 (42 * r + 7 * q + j) = N 239 (sR r + 1 + 7 * q + j)) ∧ (0 ≤ M 22 (42 * r + 7 * q + 3) ∧ M 22 (42 * r + 7 * q + 3) ≤ 2000000000) ∧ (z = 0 → M 22 (42 * r + 7 * q + 3) = N 239 (sR r + 1 + 7 * q + 3)) ∧ (z = 1 → N 239 (sR r + 1 + 7 * q + 3) = 0))
  ∧ ∀ i, 7 * M 21 r ≤ i → i < 42 → N 239 (sR r + 1 + i) = 0
def RI (z : Int) (M N : mm_) : Prop := (0 ≤ M 0 7 ∧ M 0 7 ≤ 12 ∧ N 239 0 = M 0 7) ∧ (M 0 8 = N 239 1 ∧ 1 ≤ M 0 8) ∧ (∀ k, 0 ≤ k → k < M 0 7 → IN z M N k) ∧ ∀ k, M 0 7 ≤ k → k < 12 → ∀ i, 0 ≤ i → i < 56 → N 239 (sB k + i) = 0
def RRt (z : Int) (M N : mm_) : Prop := (0 ≤ N 6 18 ∧ N 6 18 ≤ 10) ∧ (∀ r, 0 ≤ r → r < N 6 18 → RO z M N r) ∧ ∀ r, N 6 18 ≤ r → r < 10 → ∀ i, 0 ≤ i → i < 43 → N 239 (sR r + i) = 0
def RSC (z : Int) (M N : mm_) : Prop := (M 0 25 = z ∧ N 6 127 = z ∧ (z = 0 ∨ z = 1)) ∧ (M 0 9 = N 6 128 ∧ 0 ≤ M 0 9 ∧ M 0 9 ≤ 2000000000) ∧ (M 0 10 = N 6 129 ∧ True)
  ∧ (M 0 26 = N 6 131 ∧ M 0 27 = N 6 132 ∧ M 0 28 = N 6 133 ∧ M 0 29 = N 6 134 ∧ M 0 30 = N 6 135 ∧ M 0 31 = N 6 136) ∧ (z = 1 → M 0 37 = N 6 138 ∧ M 0 38 = N 6 139)
def ROU [Inhabited fz_] (z : Int) (M N : mm_) : Prop := (M 0 32 = N 6 137 ∧ (M 0 33 = N 6 144 ∧ 0 ≤ M 0 33 ∧ M 0 33 < 200) ∧ (M 0 34 = N 6 145 ∧ 0 ≤ M 0 34 ∧ M 0 34 ≤ 200)) ∧ ∀ i, 0 ≤ i → i < 1200 → M 24 i = N 241 i ∧ (z = 1 → M 24 i = fz 24 i)
def REV [Inhabited fz_] (z : Int) (M N : mm_) : Prop := (M 0 35 = (N 6 143 + N 6 142) % 500 ∧ M 0 36 = N 6 142 ∧ (0 ≤ N 6 142 ∧ N 6 142 ≤ 500) ∧ (0 ≤ N 6 143 ∧ N 6 143 < 500) ∧ (N 6 142 < 500 → N 6 143 = 0)) ∧ ∀ i, 0 ≤ i → i < 2000 → M 23 i = N 240 i ∧ (z = 1 → M 23 i = fz 23 i)
/-- the run as it is -/
def RU [Inhabited fz_] (z : Int) (M N : mm_) : Prop := RI z M N ∧ RRt z M N ∧ RSC z M N ∧ ROU z M N ∧ REV z M N
section RUa
variable {z : Int} {M N M' N' : mm_} {k r : Int}
theorem IN_c [Inhabited fz_] (h : IN z M N k) (h08 : M' 0 8 = M 0 8) (hx : ∀ q : Nat, q ∈ [10, 11, 12, 13, 14, 15, 16, 17, 18, 19, 20] → M' q = M q) (h239 : N' 239 = N 239) (h19 : N' 6 19 = N 6 19) (hq : ∀ q : Nat, q ∈ [172, 173, 174] → N' q = N q) : IN z M' N' k := by
  unfold IN at h ⊢
  rw [h08, hx 10 (by decide), hx 11 (by decide), hx 12 (by decide), hx 13 (by decide), hx 14 (by decide), hx 15 (by decide), hx 16 (by decide), hx 17 (by decide), hx 18 (by decide), hx 19 (by decide), hx 20 (by decide), h239, h19, hq 172 (by decide), hq 173 (by decide), hq 174 (by decide)]
  exact h
theorem RI_c [Inhabited fz_] (h : RI z M N) (h0 : M' 0 7 = M 0 7 ∧ M' 0 8 = M 0 8) (hx : ∀ q : Nat, q ∈ [10, 11, 12, 13, 14, 15, 16, 17, 18, 19, 20] → M' q = M q) (h239 : N' 239 = N 239) (h19 : N' 6 19 = N 6 19) (hq : ∀ q : Nat, q ∈ [172, 173, 174] → N' q = N q) : RI z M' N' := by
  obtain ⟨a1, a2, a3, a4⟩ := h
  refine ⟨by rw [h0.1, h239]; exact a1, by rw [h0.2, h239]; exact a2, fun k k0 k1 => IN_c (a3 k k0 (by rw [h0.1] at k1; exact k1)) h0.2 hx h239 h19 hq, fun k k0 k1 i i0 i1 => ?_⟩
  rw [h239]; exact a4 k (by rw [h0.1] at k0; exact k0) k1 i i0 i1
theorem RRt_c [Inhabited fz_] (h : RRt z M N) (h21 : M' 21 = M 21) (h22 : M' 22 = M 22) (h239 : N' 239 = N 239) (h18 : N' 6 18 = N 6 18) : RRt z M' N' := by
  unfold RRt RO at h ⊢
  rw [h21, h22, h239, h18]; exact h
theorem RSC_c [Inhabited fz_] (h : RSC z M N) (h0 : ∀ i : Int, i ∈ [9, 10, 25, 26, 27, 28, 29, 30, 31, 37, 38] → M' 0 i = M 0 i) (h6 : ∀ i : Int, i ∈ [127, 128, 129, 131, 132, 133, 134, 135, 136, 138, 139] → N' 6 i = N 6 i) : RSC z M' N' := by
  unfold RSC at h ⊢
  rw [h0 9 (by decide), h0 10 (by decide), h0 25 (by decide), h0 26 (by decide), h0 27 (by decide), h0 28 (by decide), h0 29 (by decide), h0 30 (by decide), h0 31 (by decide), h0 37 (by decide), h0 38 (by decide), h6 127 (by decide), h6 128 (by decide), h6 129 (by decide), h6 131 (by decide), h6 132 (by decide), h6 133 (by decide), h6 134 (by decide), h6 135 (by decide), h6 136 (by decide), h6 138 (by decide), h6 139 (by decide)]
  exact h
theorem ROU_c [Inhabited fz_] (h : ROU z M N) (h0 : ∀ i : Int, i ∈ [32, 33, 34] → M' 0 i = M 0 i) (h24 : M' 24 = M 24) (h6 : ∀ i : Int, i ∈ [137, 144, 145] → N' 6 i = N 6 i) (h241 : N' 241 = N 241) : ROU z M' N' := by
  unfold ROU at h ⊢
  rw [h0 32 (by decide), h0 33 (by decide), h0 34 (by decide), h24, h6 137 (by decide), h6 144 (by decide), h6 145 (by decide), h241]; exact h
theorem REV_c [Inhabited fz_] (h : REV z M N) (h0 : ∀ i : Int, i ∈ [35, 36] → M' 0 i = M 0 i) (h23 : M' 23 = M 23) (h6 : ∀ i : Int, i ∈ [142, 143] → N' 6 i = N 6 i) (h240 : N' 240 = N 240) : REV z M' N' := by
  unfold REV at h ⊢
  rw [h0 35 (by decide), h0 36 (by decide), h23, h6 142 (by decide), h6 143 (by decide), h240]; exact h
end RUa
theorem upo [Inhabited fz_] {M : mm_} {r : Nat} {i j v : Int} (h : j ≠ i) : up_ M r i v r j = M r j := by unfold up_; rw [if_pos rfl, if_neg h]
/-! copies and fills -/
def cpf (f : Int → Int) (lo hi δ : Int) : Int → Int := fun i => if lo ≤ i ∧ i < hi then f (i + δ) else f i
def flf (f : Int → Int) (lo hi v : Int) : Int → Int := fun i => if lo ≤ i ∧ i < hi then v else f i
section CPF
variable {M : mm_} {f : Int → Int} {lo hi x δ v : Int} {r : Nat}
theorem cpf_0 [Inhabited fz_] : cpf f lo lo δ = f := by funext i; unfold cpf; rw [if_neg (by lia)]
theorem flf_0 [Inhabited fz_] : flf f lo lo v = f := by funext i; unfold flf; rw [if_neg (by omega)]
theorem cpf_s [Inhabited fz_] (h0 : lo ≤ x) (hd : 0 < δ) : up_ (wr_ M r (cpf f lo x δ)) r x (cpf f lo x δ (x + δ)) = wr_ M r (cpf f lo (x + 1) δ) := by
  rw [up_wr]
  congr 1
  funext i
  unfold su_
  by_cases c : i = x
  · rw [if_pos c, c]; unfold cpf; rw [if_neg (by omega), if_pos (by (clear hd; lia))]
  · rw [if_neg c]
    unfold cpf
    by_cases c2 : lo ≤ i ∧ i < x
    · rw [if_pos c2, if_pos (by omega)]
    · rw [if_neg c2, if_neg (by omega)]
theorem flf_s [Inhabited fz_] (h0 : lo ≤ x) : up_ (wr_ M r (flf f lo x v)) r x v = wr_ M r (flf f lo (x + 1) v) := by
  rw [up_wr]
  congr 1
  funext i
  unfold su_ flf
  by_cases c : i = x
  · rw [if_pos c, if_pos (by omega)]
  · rw [if_neg c]
    by_cases c2 : lo ≤ i ∧ i < x
    · rw [if_pos c2, if_pos (by omega)]
    · rw [if_neg c2, if_neg (by (clear h0; lia))]
end CPF
end T330_ru
section T331_ev
/-! the run: events, losses, slots -/
section EVa
variable {z : Int} {M N : mm_} {k a s b p : Int}
/-- what an event changes -/
def EvX (M M' : mm_) : Prop := (∀ r : Nat, r ≠ 0 → r ≠ 23 → M' r = M r) ∧ ∀ i : Int, i ≠ 35 → i ≠ 36 → M' 0 i = M 0 i
def EvQ (N N' : mm_) : Prop := (∀ r : Nat, r ≠ 6 → r ≠ 240 → N' r = N r) ∧ ∀ i : Int, i ≠ 142 → i ≠ 143 → N' 6 i = N 6 i
theorem RU_EV [Inhabited fz_] {M' N' : mm_} (h : RU z M N) (hx : EvX M M') (hq : EvQ N N') (he : REV z M' N') : RU z M' N' := by
  obtain ⟨h1, h2, h3, h4, h5⟩ := h
  refine ⟨RI_c h1 ⟨hx.2 7 (by decide) (by decide), hx.2 8 (by decide) (by decide)⟩ (fun q hq => hx.1 q (fun e => by rw [e] at hq; revert hq; decide) (fun e => by rw [e] at hq; revert hq; decide)) (hq.1 239 (by decide) (by decide)) (hq.2 19 (by decide) (by decide)) (fun q hq' => hq.1 q (fun e => by rw [e] at hq'; revert hq'; decide) (fun e => by rw [e] at hq'; revert hq'; decide)), RRt_c h2 (hx.1 21 (by decide) (by decide)) (hx.1 22 (by decide) (by decide)) (hq.1 239 (by decide) (by decide)) (hq.2 18 (by decide) (by decide)), RSC_c h3 (fun i hi => hx.2 i (fun e => by rw [e] at hi; revert hi; decide) (fun e => by rw [e] at hi; revert hi; decide)) (fun i hi => hq.2 i (fun e => by rw [e] at hi; revert hi; decide) (fun e => by rw [e] at hi; revert hi; decide)), ROU_c h4 (fun i hi => hx.2 i (fun e => by rw [e] at hi; revert hi; decide) (fun e => by rw [e] at hi; revert hi; decide)) (hx.1 24 (by decide) (by decide)) (fun i hi => hq.2 i (fun e => by rw [e] at hi; revert hi; decide) (fun e => by rw [e] at hi; revert hi; decide)) (hq.1 241 (by decide) (by decide)), he⟩
theorem up4 [Inhabited fz_] {f : Int → Int} {p x1 x2 x3 x4 : Int} {r : Nat} {M : mm_} {i : Int} : up_ (up_ (up_ (up_ M r p x1) r (p + 1) x2) r (p + 2) x3) r (p + 3) x4 r i = if i = p + 3 then x4 else if i = p + 2 then x3 else if i = p + 1 then x2 else if i = p then x1 else M r i := by
  unfold up_
  rw [if_pos rfl]
  by_cases c3 : i = p + 3
  · rw [if_pos c3, if_pos c3]
  · rw [if_neg c3, if_neg c3, if_pos rfl]
    by_cases c2 : i = p + 2
    · rw [if_pos c2, if_pos c2]
    · rw [if_neg c2, if_neg c2, if_pos rfl]
      by_cases c1 : i = p + 1
      · rw [if_pos c1, if_pos c1]
      · rw [if_neg c1, if_neg c1, if_pos rfl]
/-- an event -/
def evX (M : mm_) (k a s b : Int) : mm_ := if M 0 25 = 0 then up_ (up_ (up_ (up_ (up_ (up_ M 23 (4 * M 0 35) k) 23 (4 * M 0 35 + 1) a) 23 (4 * M 0 35 + 2) s) 23 (4 * M 0 35 + 3) b) 0 35 ((M 0 35 + 1) % 500)) 0 36 (if M 0 36 < 500 then M 0 36 + 1 else 500) else M
def evP (N : mm_) : Int := 4 * ((N 6 143 + N 6 142) % 500)
def evA (N : mm_) (k a s b : Int) : mm_ := up_ (up_ (up_ (up_ N 240 (evP N) k) 240 (evP N + 1) a) 240 (evP N + 2) s) 240 (evP N + 3) b
def evQ (N : mm_) (k a s b : Int) : mm_ := if N 6 127 = 0 then (if N 6 142 < 500 then up_ (evA N k a s b) 6 142 (N 6 142 + 1) else up_ (evA N k a s b) 6 143 ((N 6 143 + 1) % 500)) else N
theorem EvX_ev [Inhabited fz_] : EvX M (evX M k a s b) := by
  unfold evX
  split
  · exact ⟨fun r h0 h1 => by rw [up_ne h0, up_ne h0, up_ne h1, up_ne h1, up_ne h1, up_ne h1], fun i h1 h2 => by rw [upo h2, upo h1, up_ne (by decide), up_ne (by decide), up_ne (by decide), up_ne (by decide)]⟩
  · exact ⟨fun _ _ _ => rfl, fun _ _ _ => rfl⟩
theorem evA_r [Inhabited fz_] {r : Nat} (h : r ≠ 240) : evA N k a s b r = N r := by unfold evA; rw [up_ne h, up_ne h, up_ne h, up_ne h]
theorem EvQ_ev [Inhabited fz_] : EvQ N (evQ N k a s b) := by
  unfold evQ
  split
  · split
    · exact ⟨fun r h0 h1 => by rw [up_ne h0, evA_r h1], fun i h1 h2 => by rw [upo h1, evA_r (by decide)]⟩
    · exact ⟨fun r h0 h1 => by rw [up_ne h0, evA_r h1], fun i h1 h2 => by rw [upo h2, evA_r (by decide)]⟩
  · exact ⟨fun _ _ _ => rfl, fun _ _ _ => rfl⟩
theorem x_5 [Inhabited fz_] (hb : M 0 25 = 0 ∨ M 0 25 = 1) (h35 : 0 ≤ M 0 35 ∧ M 0 35 < 500) (h36 : 0 ≤ M 0 36 ∧ M 0 36 ≤ 500) : Ex_ 1 5 [.inr (.inr 0), .inl k, .inl a, .inl s, .inl b] M [] (evX M k a s b) := fun Qr Qt hq => t_5 fun V hV hW => b_5_0 (Tr_mono _) hV hW _ _ _ _ _ (fun _ => by
  unfold evX at hq
  by_cases c : M 0 25 = 0
  · rw [if_pos c] at hq ⊢
    rw [w32_id (x := 4 * M 0 35) (by omega) (by omega), w32_id (x := 4 * M 0 35 + 1) (by omega) (by omega), w32_id (x := 4 * M 0 35 + 2) (by omega) (by omega), w32_id (x := 4 * M 0 35 + 3) (by omega) (by (clear hb h36 hq hV hW c; lia)), w32_id (x := M 0 36 + 1) (by omega) (by omega), w32_id (x := M 0 35 + 1) (by omega) (by omega), Int.tmod_eq_emod_of_nonneg (by (clear hb h36 hq hV hW c; omega))]
    refine ⟨by omega, by omega, by (clear hb h36 hq hV hW c; omega), by (clear hb h36 hq hV hW c; lia), by decide, ?_⟩
    have : (if M 0 36 + 1 < 500 then M 0 36 + 1 else 500) = (if M 0 36 < 500 then M 0 36 + 1 else 500) := by
      by_cases c : M 0 36 + 1 < 500
      · rw [if_pos c, if_pos (by omega)]
      · rw [if_neg c]
        split <;> (clear hb h35 hq hV hW; omega)
    rw [this]; exact hq
  · rw [if_neg c] at hq ⊢; exact hq)
theorem q_324 [Inhabited fz_] (hb : N 6 127 = 0 ∨ N 6 127 = 1) (h2 : 0 ≤ N 6 142 ∧ N 6 142 ≤ 500) (h3 : 0 ≤ N 6 143 ∧ N 6 143 < 500) : Ex_ 1 324 [.inr (.inr 6), .inl k, .inl a, .inl s, .inl b] N [] (evQ N k a s b) := fun Qr Qt hq => t_324 fun V hV hW => b_324_0 (Tr_mono _) hV hW _ _ _ _ _ (fun _ => by
  unfold evQ evA evP at hq
  by_cases c : N 6 127 = 0
  · rw [if_pos c] at hq ⊢
    rw [w32_id (x := N 6 143 + N 6 142) (by (clear hb hq hV hW c; omega)) (by omega), Int.tmod_eq_emod_of_nonneg (by omega)]
    have m := Int.emod_nonneg (N 6 143 + N 6 142) (b := 500) (by decide)
    have m2 := Int.emod_lt_of_pos (N 6 143 + N 6 142) (b := 500) (by decide)
    generalize (N 6 143 + N 6 142) % 500 = e at *
    rw [w32_id (x := 4 * e) (by (clear hb h2 h3 hV hW c hq; lia)) (by (clear hb h2 h3 hV hW c hq; omega)), w32_id (x := 4 * e + 1) (by (clear hb h2 h3 hV hW c hq; lia)) (by omega), w32_id (x := 4 * e + 2) (by omega) (by omega), w32_id (x := 4 * e + 3) (by omega) (by omega), w32_id (x := N 6 142 + 1) (by omega) (by omega), w32_id (x := N 6 143 + 1) (by omega) (by omega), Int.tmod_eq_emod_of_nonneg (by omega)]
    refine ⟨by decide, by omega, by omega, by omega, by omega, ?_⟩
    by_cases c2 : N 6 142 < 500
    · rw [if_pos c2] at hq ⊢; exact hq
    · rw [if_neg c2] at hq ⊢; exact ⟨by decide, hq⟩
  · rw [if_neg c] at hq ⊢; exact hq)
theorem REV_ev [Inhabited fz_] (hs : M 0 25 = z ∧ N 6 127 = z ∧ (z = 0 ∨ z = 1)) (h : REV z M N) : REV z (evX M k a s b) (evQ N k a s b) := by
  obtain ⟨⟨e1, e2, e3, e4, e5⟩, e6⟩ := h
  by_cases c : z = 0
  · unfold evX evQ
    rw [if_pos (show M 0 25 = 0 by (clear e6 e1 e2 e3 e4 e5; lia)), if_pos (show N 6 127 = 0 by omega), e2]
    have eP : evP N = 4 * M 0 35 := by unfold evP; rw [e1]
    have a240 : ∀ i, 0 ≤ i → i < 2000 → evA N k a s b 240 i = (up_ (up_ (up_ (up_ M 23 (4 * M 0 35) k) 23 (4 * M 0 35 + 1) a) 23 (4 * M 0 35 + 2) s) 23 (4 * M 0 35 + 3) b) 23 i := fun i i0 i1 => by
      unfold evA
      rw [eP, up4 (f := M 23), up4 (f := M 23), (e6 i i0 i1).1]
    by_cases c2 : N 6 142 < 500
    · rw [if_pos c2, if_pos c2]
      have := e5 c2
      refine ⟨⟨?_, ?_, ?_, ?_, ?_⟩, fun i i0 i1 => ⟨?_, fun c1 => absurd c1 (by omega)⟩⟩
      · rw [upo (by decide), up_at, up_at, upo (by decide), evA_r (by decide)]; (clear hs e6 e3 e4 e5 c eP a240 c2; lia)
      · rw [up_at, up_at]
      · rw [up_at]; (clear hs e6 e1 e4 e5 c eP a240 this; omega)
      · rw [upo (by decide), evA_r (by decide)]; exact e4
      · intro _; rw [upo (by decide), evA_r (by decide)]; exact this
      · rw [up_ne (r' := 23) (by decide), up_ne (r' := 23) (by decide), up_ne (r' := 240) (by decide), a240 i i0 i1]
    · rw [if_neg c2, if_neg c2]
      refine ⟨⟨?_, ?_, ?_, ?_, ?_⟩, fun i i0 i1 => ⟨?_, fun c1 => absurd c1 (by omega)⟩⟩
      · rw [upo (by decide), up_at, up_at, upo (by decide), evA_r (by decide)]; (clear hs e6 e4 e5 c eP a240; lia)
      · rw [up_at, upo (by decide), evA_r (by decide)]; (clear hs e6 e1 e4 e5 c eP a240; omega)
      · rw [upo (by decide), evA_r (by decide)]; exact e3
      · rw [up_at]; omega
      · rw [upo (by decide), evA_r (by decide)]; (clear hs e6 e1 e4 e5 c eP a240; omega)
      · rw [up_ne (r' := 23) (by decide), up_ne (r' := 23) (by decide), up_ne (r' := 240) (by decide), a240 i i0 i1]
  · unfold evX evQ
    rw [if_neg (show ¬ M 0 25 = 0 by omega), if_neg (show ¬ N 6 127 = 0 by omega)]
    exact ⟨⟨e1, e2, e3, e4, e5⟩, e6⟩
theorem RU_ev [Inhabited fz_] (h : RU z M N) : RU z (evX M k a s b) (evQ N k a s b) := RU_EV h EvX_ev EvQ_ev (REV_ev h.2.2.1.1 h.2.2.2.2)
/-- what the run needs to tell an event -/
theorem RU_b5 [Inhabited fz_] (h : RU z M N) : (M 0 25 = 0 ∨ M 0 25 = 1) ∧ (0 ≤ M 0 35 ∧ M 0 35 < 500) ∧ (0 ≤ M 0 36 ∧ M 0 36 ≤ 500) := by
  have hs := h.2.2.1.1
  have e := h.2.2.2.2.1
  omega
theorem RU_b324 [Inhabited fz_] (h : RU z M N) : (N 6 127 = 0 ∨ N 6 127 = 1) ∧ (0 ≤ N 6 142 ∧ N 6 142 ≤ 500) ∧ (0 ≤ N 6 143 ∧ N 6 143 < 500) := by
  have hs := h.2.2.1.1
  have e := h.2.2.2.2.1
  omega
end EVa
end T331_ev
section T332_lo
/-! the run: losses, slots -/
def cnX (M : mm_) : mm_ := if M 0 25 = 0 then up_ (up_ M 0 37 (w32 (M 0 37 + 1))) 0 27 (w32 (M 0 27 + 1)) else up_ M 0 37 (w32 (M 0 37 + 1))
def cnQ (N : mm_) : mm_ := if N 6 127 = 0 then up_ (up_ N 6 138 (w32 (N 6 138 + 1))) 6 132 (w32 (N 6 132 + 1)) else up_ N 6 138 (w32 (N 6 138 + 1))
def loX (M : mm_) (p s b : Int) : mm_ := evX (cnX M) 3 p s b
def loQ (N : mm_) (p s b : Int) : mm_ := cnQ (evQ N 3 p s b)
section LOa
variable {z : Int} {M N M' N' : mm_} {k a s b p : Int}
theorem cnX_r [Inhabited fz_] {r : Nat} (h : r ≠ 0) : cnX M r = M r := by unfold cnX; split <;> simp only [up_ne h]
theorem cnX_0 [Inhabited fz_] {i : Int} (h : i ≠ 37) (h' : i ≠ 27) : cnX M 0 i = M 0 i := by unfold cnX; split <;> simp only [upo h, upo h']
theorem cnQ_r [Inhabited fz_] {r : Nat} (h : r ≠ 6) : cnQ N r = N r := by unfold cnQ; split <;> simp only [up_ne h]
theorem cnQ_6 [Inhabited fz_] {i : Int} (h : i ≠ 138) (h' : i ≠ 132) : cnQ N 6 i = N 6 i := by unfold cnQ; split <;> simp only [upo h, upo h']
theorem RU_cn [Inhabited fz_] (h : RU z M N) : RU z (cnX M) (cnQ N) := by
  obtain ⟨a1, a2, a3, a4, a5⟩ := h
  refine ⟨RI_c a1 ⟨cnX_0 (by decide) (by decide), cnX_0 (by decide) (by decide)⟩ (fun q hq => cnX_r (fun e => by rw [e] at hq; revert hq; decide)) (cnQ_r (by decide)) (cnQ_6 (by decide) (by decide)) (fun q hq => cnQ_r (fun e => by rw [e] at hq; revert hq; decide)), RRt_c a2 (cnX_r (by decide)) (cnX_r (by decide)) (cnQ_r (by decide)) (cnQ_6 (by decide) (by decide)), ?_, ROU_c a4 (fun i hi => cnX_0 (fun e => by rw [e] at hi; revert hi; decide) (fun e => by rw [e] at hi; revert hi; decide)) (cnX_r (by decide)) (fun i hi => cnQ_6 (fun e => by rw [e] at hi; revert hi; decide) (fun e => by rw [e] at hi; revert hi; decide)) (cnQ_r (by decide)), REV_c a5 (fun i hi => cnX_0 (fun e => by rw [e] at hi; revert hi; decide) (fun e => by rw [e] at hi; revert hi; decide)) (cnX_r (by decide)) (fun i hi => cnQ_6 (fun e => by rw [e] at hi; revert hi; decide) (fun e => by rw [e] at hi; revert hi; decide)) (cnQ_r (by decide))⟩
  obtain ⟨z1, z2, z3, ⟨l1, l2, l3⟩, z5⟩ := a3
  have x27 : cnX M 0 27 = if z = 0 then w32 (M 0 27 + 1) else M 0 27 := by
    unfold cnX; rw [z1.1]; split
    · rw [up_at]
    · rw [upo (by decide)]
  have q132 : cnQ N 6 132 = if z = 0 then w32 (N 6 132 + 1) else N 6 132 := by
    unfold cnQ; rw [z1.2.1]; split
    · rw [up_at]
    · rw [upo (by decide)]
  have x37 : cnX M 0 37 = w32 (M 0 37 + 1) := by
    unfold cnX; split
    · rw [upo (by decide), up_at]
    · rw [up_at]
  have q138 : cnQ N 6 138 = w32 (N 6 138 + 1) := by
    unfold cnQ; split
    · rw [upo (by decide), up_at]
    · rw [up_at]
  unfold RSC
  rw [x27, q132, x37, q138, l2, cnX_0 (i := 25) (by decide) (by decide), cnX_0 (i := 9) (by decide) (by decide), cnX_0 (i := 10) (by decide) (by decide), cnX_0 (i := 26) (by decide) (by decide), cnX_0 (i := 28) (by decide) (by decide), cnX_0 (i := 29) (by decide) (by decide), cnX_0 (i := 30) (by decide) (by decide), cnX_0 (i := 31) (by decide) (by decide), cnX_0 (i := 38) (by decide) (by decide), cnQ_6 (i := 127) (by decide) (by decide), cnQ_6 (i := 128) (by decide) (by decide), cnQ_6 (i := 129) (by decide) (by decide), cnQ_6 (i := 131) (by decide) (by decide), cnQ_6 (i := 133) (by decide) (by decide), cnQ_6 (i := 134) (by decide) (by decide), cnQ_6 (i := 135) (by decide) (by decide), cnQ_6 (i := 136) (by decide) (by decide), cnQ_6 (i := 139) (by decide) (by decide)]
  exact ⟨z1, z2, z3, ⟨l1, rfl, l3⟩, fun hz => ⟨by rw [(z5 hz).1], (z5 hz).2⟩⟩
theorem cnQ_e [Inhabited fz_] {N1 : mm_} (h : ∀ i : Int, i ∈ [127, 132, 138] → N1 6 i = N 6 i) : cnQ N1 6 132 = cnQ N 6 132 ∧ cnQ N1 6 138 = cnQ N 6 138 := by
  have e : ∀ A : mm_, cnQ A 6 132 = (if A 6 127 = 0 then w32 (A 6 132 + 1) else A 6 132) ∧ cnQ A 6 138 = w32 (A 6 138 + 1) := fun A => by
    unfold cnQ
    split
    · exact ⟨by rw [up_at], by rw [upo (by decide), up_at]⟩
    · exact ⟨by rw [upo (by decide)], by rw [up_at]⟩
  rw [(e N1).1, (e N1).2, (e N).1, (e N).2, h 127 (by decide), h 132 (by decide), h 138 (by decide)]
  exact ⟨rfl, rfl⟩
def LoX (M M' : mm_) : Prop := (∀ r : Nat, r ≠ 0 → r ≠ 23 → M' r = M r) ∧ ∀ i : Int, i ∉ [27, 35, 36, 37] → M' 0 i = M 0 i
def LoQ (N N' : mm_) : Prop := (∀ r : Nat, r ≠ 6 → r ≠ 240 → N' r = N r) ∧ ∀ i : Int, i ∉ [132, 138, 142, 143] → N' 6 i = N 6 i
theorem LoX_lo [Inhabited fz_] : LoX M (loX M p s b) := ⟨fun r h h' => by unfold loX; rw [EvX_ev.1 r h h', cnX_r h], fun i hi => by unfold loX; rw [EvX_ev.2 i (fun e => hi (by rw [e]; decide)) (fun e => hi (by rw [e]; decide)), cnX_0 (fun e => hi (by rw [e]; decide)) (fun e => hi (by rw [e]; decide))]⟩
theorem LoQ_lo [Inhabited fz_] : LoQ N (loQ N p s b) := ⟨fun r h h' => by unfold loQ; rw [cnQ_r h, EvQ_ev.1 r h h'], fun i hi => by unfold loQ; rw [cnQ_6 (fun e => hi (by rw [e]; decide)) (fun e => hi (by rw [e]; decide)), EvQ_ev.2 i (fun e => hi (by rw [e]; decide)) (fun e => hi (by rw [e]; decide))]⟩
theorem RU_lo [Inhabited fz_] (h : RU z M N) : RU z (loX M p s b) (loQ N p s b) := by
  have hc := RU_cn h
  have fx := LoX_lo (M := M) (p := p) (s := s) (b := b)
  have fq := LoQ_lo (N := N) (p := p) (s := s) (b := b)
  refine ⟨RI_c h.1 ⟨fx.2 7 (by decide), fx.2 8 (by decide)⟩ (fun q hq => fx.1 q (fun e => by rw [e] at hq; revert hq; decide) (fun e => by rw [e] at hq; revert hq; decide)) (fq.1 239 (by decide) (by decide)) (fq.2 19 (by decide)) (fun q hq => fq.1 q (fun e => by rw [e] at hq; revert hq; decide) (fun e => by rw [e] at hq; revert hq; decide)), RRt_c h.2.1 (fx.1 21 (by decide) (by decide)) (fx.1 22 (by decide) (by decide)) (fq.1 239 (by decide) (by decide)) (fq.2 18 (by decide)), RSC_c hc.2.2.1 (fun i hi => ?_) (fun i hi => ?_), ROU_c h.2.2.2.1 (fun i hi => fx.2 i (fun e => by simp only [List.mem_cons, List.not_mem_nil, or_false] at e hi; omega)) (fx.1 24 (by decide) (by decide)) (fun i hi => fq.2 i (fun e => by simp only [List.mem_cons, List.not_mem_nil, or_false] at e hi; omega)) (fq.1 241 (by decide) (by decide)), ?_⟩
  · unfold loX; exact EvX_ev.2 i (fun e => by rw [e] at hi; revert hi; decide) (fun e => by rw [e] at hi; revert hi; decide)
  · unfold loQ
    have ev : ∀ j : Int, j ≠ 142 → j ≠ 143 → evQ N 3 p s b 6 j = N 6 j := fun j h1 h2 => EvQ_ev.2 j h1 h2
    have c := cnQ_e (N := N) (N1 := evQ N 3 p s b) (fun j hj => ev j (fun e => by rw [e] at hj; revert hj; decide) (fun e => by rw [e] at hj; revert hj; decide))
    by_cases e1 : i = 132
    · rw [e1]; exact c.1
    · by_cases e2 : i = 138
      · rw [e2]; exact c.2
      · rw [cnQ_6 e2 e1, cnQ_6 e2 e1, ev i (fun e => by rw [e] at hi; revert hi; decide) (fun e => by rw [e] at hi; revert hi; decide)]
  · have r1 : REV z (cnX M) N := REV_c h.2.2.2.2 (fun i hi => cnX_0 (fun e => by rw [e] at hi; revert hi; decide) (fun e => by rw [e] at hi; revert hi; decide)) (cnX_r (by decide)) (fun _ _ => rfl) rfl
    have r2 := REV_ev (z := z) (k := 3) (a := p) (s := s) (b := b) ⟨by rw [cnX_0 (by decide) (by decide)]; exact h.2.2.1.1.1, h.2.2.1.1.2⟩ r1
    exact REV_c r2 (fun _ _ => rfl) rfl (fun i hi => cnQ_6 (fun e => by rw [e] at hi; revert hi; decide) (fun e => by rw [e] at hi; revert hi; decide)) (cnQ_r (by decide))
theorem x_7 [Inhabited fz_] (h : RU z M N) : Ex_ 2 7 [.inr (.inr 0), .inl p, .inl s, .inl b] M [] (loX M p s b) := fun Qr Qt hq => t_7 fun V hV hW => b_7_0 (Tr_mono _) hV hW _ _ _ _ (fun _ => by
  obtain ⟨b1, b2, b3⟩ := RU_b5 (RU_cn h)
  have ex := x_5 (M := cnX M) (k := 3) (a := p) (s := s) (b := b) b1 b2 b3
  by_cases c : M 0 25 = 0
  · rw [if_pos c]
    have e : cnX M = up_ (up_ M 0 37 (w32 (M 0 37 + 1))) 0 27 (w32 (M 0 27 + 1)) := by unfold cnX; rw [if_pos c]
    rw [← e]; exact ex _ _ (rv_i hq)
  · rw [if_neg c]
    have e : cnX M = up_ M 0 37 (w32 (M 0 37 + 1)) := by unfold cnX; rw [if_neg c]
    rw [← e]; exact ex _ _ (rv_i hq))
theorem q_333 [Inhabited fz_] (h : RU z M N) : Ex_ 2 333 [.inr (.inr 6), .inl p, .inl s, .inl b] N [] (loQ N p s b) := fun Qr Qt hq => t_333 fun V hV hW => b_333_0 (Tr_mono _) hV hW _ _ _ _ (by
  obtain ⟨b1, b2, b3⟩ := RU_b324 h
  refine q_324 b1 b2 b3 _ _ (rv_i (fun _ => ?_))
  unfold loQ cnQ at hq
  by_cases c : evQ N 3 p s b 6 127 = 0
  · rw [if_pos c] at hq ⊢; exact hq
  · rw [if_neg c] at hq ⊢; exact hq)
/-! slots -/
theorem x_6 [Inhabited fz_] {n : Nat} (hn : M 0 7 = n) (h12 : n ≤ 12) : Ex_ 1 6 [.inr (.inr 0), .inl p] M [.inl (fi_ (M 10) p n 0)] M := fun Qr Qt hq => t_6 fun V hV hW => b_6_0 (Tr_mono _) hV hW _ _ (by
  have l : ∀ (j i : Nat), i + j = n → Qr [.inl (fi_ (M 10) p j i)] M → V 2 [rr 0, ii p, ii (i : Int)] [] M := fun j => by
    induction j with
    | zero =>
      intro i hi h
      refine b_6_2 (Tr_mono _) hV hW _ _ _ ?_
      rw [hn, if_neg (by omega)]; exact h
    | succ j ih =>
      intro i hi h
      refine b_6_2 (Tr_mono _) hV hW _ _ _ ?_
      rw [hn, if_pos (by omega)]
      refine ⟨by omega, ?_⟩
      unfold fi_ at h
      by_cases c : M 10 i = p
      · rw [if_pos c] at h ⊢; exact h
      · rw [if_neg c] at h ⊢
        rw [w32_id (x := (i : Int) + 1) (by omega) (by omega)]
        exact ih (i + 1) (by omega) h
  exact l n 0 (by omega) hq)
theorem q_323 [Inhabited fz_] {k : Int} (hk : 0 ≤ k ∧ k < 100) : Ex_ 1 323 [.inl k] N [.inl (sB k)] N := fun Qr Qt hq => t_323 fun V hV hW => b_323_0 (Tr_mono _) hV hW _ _ (by
  rw [w32_id (x := 56 * k) (by omega) (by omega), w32_id (x := 2 + 56 * k) (by omega) (by omega)]; exact hq)
theorem q_327 [Inhabited fz_] {k : Int} (hk : 0 ≤ k ∧ k < 100) : Ex_ 1 327 [.inl k] N [.inl (sR k)] N := fun Qr Qt hq => t_327 fun V hV hW => b_327_0 (Tr_mono _) hV hW _ _ (by
  rw [w32_id (x := 43 * k) (by omega) (by omega), w32_id (x := 674 + 43 * k) (by omega) (by omega)]; exact hq)
theorem q_331 [Inhabited fz_] {n : Nat} (hn : N 239 0 = n) (h12 : n ≤ 12) : Ex_ 2 331 [.inr (.inr 6), .inl p] N [.inl (fi_ (fun i => N 239 (sB i)) p n 0)] N := fun Qr Qt hq => t_331 fun V hV hW => b_331_0 (Tr_mono _) hV hW _ _ (by
  have l : ∀ (j i : Nat), i + j = n → Qr [.inl (fi_ (fun i => N 239 (sB i)) p j i)] N → V 2 [rr 6, ii p, ii (i : Int)] [] N := fun j => by
    induction j with
    | zero =>
      intro i hi h
      refine b_331_2 (Tr_mono _) hV hW _ _ _ ⟨by decide, ?_⟩
      rw [hn, if_neg (by omega)]; exact h
    | succ j ih =>
      intro i hi h
      refine b_331_2 (Tr_mono _) hV hW _ _ _ ⟨by decide, ?_⟩
      rw [hn, if_pos (by omega)]
      refine q_323 (by (clear hn hq hV hW ih h; omega)) _ _ (ri_i ⟨by unfold sB; (clear hn hq hV hW ih h; omega), ?_⟩)
      unfold fi_ at h
      by_cases c : N 239 (sB i) = p
      · rw [if_pos c] at h ⊢; exact h
      · rw [if_neg c] at h ⊢
        rw [w32_id (x := (i : Int) + 1) (by omega) (by omega)]
        exact ih (i + 1) (by omega) h
  exact l n 0 (by omega) hq)
theorem fi_rg [Inhabited fz_] {g : Int → Int} {v : Int} {n : Nat} : fi_ g v n 0 = -1 ∨ (0 ≤ fi_ g v n 0 ∧ fi_ g v n 0 < n ∧ g (fi_ g v n 0) = v) := by
  rcases fi_r g v n 0 with h | h
  · exact .inl h
  · exact .inr ⟨h.1, by lia, h.2.2⟩
/-- the slot of a pid, in both -/
theorem RU_sl [Inhabited fz_] (h : RU z M N) : fi_ (fun i => N 239 (sB i)) p (M 0 7).toNat 0 = fi_ (M 10) p (M 0 7).toNat 0 := by
  refine fi_cg _ _ (fun i i0 i1 => ?_)
  have := h.1.2.2.1 i i0 (by omega)
  rw [this.1.1]
end LOa
end T332_lo
section T333_iq
/-! the run: an instance more or less changed; a signal comes to a queue -/
section IQa
variable {z : Int} {M N M' N' : mm_} {k a b c sg sn p : Int}
theorem IN_o [Inhabited fz_] (h : IN z M N k) (h08 : M 0 8 ≤ M' 0 8) (hx : ∀ q : Nat, q ∈ [10, 11, 12, 14, 18, 19, 20] → M' q k = M q k) (h13 : ∀ i, 0 ≤ i → i < 16 → M' 13 (16 * k + i) = M 13 (16 * k + i)) (h15 : ∀ i, 0 ≤ i → i < 30 → M' 15 (30 * k + i) = M 15 (30 * k + i)) (h16 : ∀ i, 0 ≤ i → i < 3 → M' 16 (3 * k + i) = M 16 (3 * k + i) ∧ M' 17 (3 * k + i) = M 17 (3 * k + i)) (hN : ∀ j, 0 ≤ j → j < 56 → N' 239 (sB k + j) = N 239 (sB k + j)) (h19 : N' 6 19 = N 6 19) (hq : ∀ q : Nat, q ∈ [172, 173, 174] → N' q = N q) : IN z M' N' k := by
  obtain ⟨⟨a1, a2, a3, a4, a5, a6⟩, ⟨b1, b2, b3⟩, ⟨c1, c2⟩, d1, ⟨e1, e2, e3⟩, e4, e5⟩ := h
  have h0 := hN 0 (by decide) (by decide)
  rw [Int.add_zero] at h0
  unfold IN
  rw [hx 10 (by decide), hx 11 (by decide), hx 12 (by decide), hx 14 (by decide), hx 18 (by decide), hx 19 (by decide), hx 20 (by decide), h19, hq 172 (by decide), hq 173 (by decide), hq 174 (by decide), h0, hN 1 (by decide) (by decide), hN 2 (by decide) (by decide), hN 3 (by decide) (by decide), hN 4 (by decide) (by decide), hN 5 (by decide) (by decide), hN 25 (by decide) (by decide)]
  have n6 : ∀ i, 0 ≤ i → i < 16 → N' 239 (sB k + 6 + i) = N 239 (sB k + 6 + i) := fun i i0 i1 => by have := hN (6 + i) (by (clear h08 hx h13 h15 h16 hN h19 hq a1 a2 a3 a4 a5 a6 b1 b2 b3 c1 c2 d1 e1 e2 e3 e4 e5 h0; lia)) (by (clear h08 hx h13 h15 h16 hN h19 hq a1 a2 a3 a4 a5 a6 b1 b2 b3 c1 c2 d1 e1 e2 e3 e4 e5 h0; omega)); rw [← Int.add_assoc] at this; exact this
  have n22 : ∀ i, 0 ≤ i → i < 3 → N' 239 (sB k + 22 + i) = N 239 (sB k + 22 + i) := fun i i0 i1 => by have := hN (22 + i) (by (clear h08 hx h13 h15 h16 hN h19 hq a1 a2 a3 a4 a5 a6 b1 b2 b3 c1 c2 d1 e1 e2 e3 e4 e5 h0 n6; lia)) (by (clear h08 hx h13 h15 h16 hN h19 hq a1 a2 a3 a4 a5 a6 b1 b2 b3 c1 c2 d1 e1 e2 e3 e4 e5 h0 n6; omega)); rw [← Int.add_assoc] at this; exact this
  have n26 : ∀ i, 0 ≤ i → i < 30 → N' 239 (sB k + 26 + i) = N 239 (sB k + 26 + i) := fun i i0 i1 => by have := hN (26 + i) (by (clear h08 hx h13 h15 h16 hN h19 hq a1 a2 a3 a4 a5 a6 b1 b2 b3 c1 c2 d1 e1 e2 e3 e4 e5 h0 n6 n22; lia)) (by omega); rw [← Int.add_assoc] at this; exact this
  refine ⟨⟨a1, a2, a3, a4, a5, a6⟩, ⟨⟨b1.1, by (clear hx h13 h15 h16 hN h19 hq a2 a3 a4 a5 a6 b2 b3 c1 c2 d1 e1 e2 e3 e4 e5 n6 n22 n26; omega)⟩, b2, b3⟩, ⟨fun i i0 i1 => by rw [h13 i i0 i1, n6 i i0 i1]; exact c1 i i0 i1, fun i i0 i1 i2 => by rw [n6 i i1 i2]; exact c2 i i0 i1 i2⟩, fun t t0 t1 => by rw [(h16 t t0 t1).1, (h16 t t0 t1).2, n22 t t0 t1]; exact d1 t t0 t1, ⟨e1, e2, e3⟩, fun i i0 i1 => by rw [h15 i i0 (by (clear h08 hx h13 h15 h16 hN h19 hq a1 a2 a3 a4 a5 a6 b1 b2 b3 c1 c2 d1 e4 e5 h0 n6 n22 n26 i0; lia)), n26 i i0 (by omega)]; exact e4 i i0 i1, fun i i0 i1 => by rw [n26 i (by (clear h08 hx h13 h15 h16 hN h19 hq a1 a2 a3 a4 a5 a6 b1 b2 b3 c1 c2 d1 e4 e5 h0 n6 n22 n26 i1; lia)) i1]; exact e5 i i0 i1⟩
theorem RI_k [Inhabited fz_] (h : RI z M N) (hk : 0 ≤ k ∧ k < M 0 7) (h0 : M' 0 7 = M 0 7 ∧ M' 0 8 = M 0 8) (hx : ∀ q : Nat, q ∈ [10, 11, 12, 14, 18, 19, 20] → ∀ i, i ≠ k → M' q i = M q i) (h13 : ∀ i, i < 16 * k ∨ 16 * k + 16 ≤ i → M' 13 i = M 13 i) (h15 : ∀ i, i < 30 * k ∨ 30 * k + 30 ≤ i → M' 15 i = M 15 i) (h16 : ∀ i, i < 3 * k ∨ 3 * k + 3 ≤ i → M' 16 i = M 16 i ∧ M' 17 i = M 17 i) (hN : ∀ i, i < sB k ∨ sB k + 56 ≤ i → N' 239 i = N 239 i) (h19 : N' 6 19 = N 6 19) (hq : ∀ q : Nat, q ∈ [172, 173, 174] → N' q = N q) (hI : IN z M' N' k) : RI z M' N' := by
  obtain ⟨a1, a2, a3, a4⟩ := h
  have hB : sB k = 2 + 56 * k := rfl
  refine ⟨by rw [h0.1, hN 0 (by (clear h0 hx h13 h15 h16 hN h19 hq hI a1 a2 a3 a4; lia))]; exact a1, by rw [h0.2, hN 1 (by omega)]; exact a2, fun j j0 j1 => ?_, fun j j0 j1 i i0 i1 => ?_⟩
  · rw [h0.1] at j1
    by_cases c : j = k
    · rw [c]; exact hI
    · have hJ : sB j = 2 + 56 * j := rfl
      exact IN_o (a3 j j0 j1) (Int.le_of_eq h0.2.symm) (fun q hq' => hx q hq' j c) (fun i i0 i1 => h13 _ (by (clear hk h0 hx h13 h15 h16 hN h19 hq hI a1 a2 a3 a4 hB j0 j1 hJ; omega))) (fun i i0 i1 => h15 _ (by (clear hk h0 hx h13 h15 h16 hN h19 hq hI a1 a2 a3 a4 hB j0 j1 hJ; lia))) (fun i i0 i1 => h16 _ (by (clear hk h0 hx h13 h15 h16 hN h19 hq hI a1 a2 a3 a4 hB j0 j1 hJ; lia))) (fun i i0 i1 => hN _ (by (clear hk h0 hx h13 h15 h16 hN h19 hq hI a1 a2 a3 a4 j0 j1; lia))) h19 hq
  · rw [h0.1] at j0
    have hJ : sB j = 2 + 56 * j := rfl
    rw [hN _ (by (clear hx h13 h15 h16 hN h19 hq hI a2 a3 a4 j1; lia))]
    exact a4 j j0 j1 i i0 i1
theorem RRt_k [Inhabited fz_] (h : RRt z M N) (h21 : M' 21 = M 21) (h22 : M' 22 = M 22) (hN : ∀ i, 674 ≤ i → N' 239 i = N 239 i) (h18 : N' 6 18 = N 6 18) : RRt z M' N' := by
  obtain ⟨a1, a2, a3⟩ := h
  refine ⟨by rw [h18]; exact a1, fun r r0 r1 => ?_, fun r r0 r1 i i0 i1 => ?_⟩
  · rw [h18] at r1
    have hR : sR r = 674 + 43 * r := rfl
    obtain ⟨b1, b2, b3⟩ := a2 r r0 r1
    unfold RO
    rw [h21, h22, hN _ (by omega)]
    refine ⟨b1, fun q q0 q1 => ?_, fun i i0 i1 => by rw [hN _ (by (clear h21 h22 hN h18 a2 a3 b2 b3 i1; lia))]; exact b3 i i0 i1⟩
    obtain ⟨c1, c2, c3, c4⟩ := b2 q q0 q1
    exact ⟨fun j j0 j1 j2 => by rw [hN _ (by (clear h21 h22 hN h18 a2 a3 b2 b3 c1 c2 c3 c4 j2; lia))]; exact c1 j j0 j1 j2, c2, fun hz => by rw [hN _ (by (clear h21 h22 hN h18 a2 a3 b1 b2 b3 q1 c1 c2 c3 c4 hz; lia))]; exact c3 hz, fun hz => by rw [hN _ (by omega)]; exact c4 hz⟩
  · rw [h18] at r0
    have hR : sR r = 674 + 43 * r := rfl
    have : 0 ≤ N 6 18 := a1.1
    rw [hN _ (by omega)]; exact a3 r r0 r1 i i0 i1
/-- an item more -/
def qX (M : mm_) (k sg sn a b c : Int) : mm_ := up_ (up_ (up_ (up_ (up_ (up_ M 15 (30 * k + 5 * M 14 k) sg) 15 (30 * k + 5 * M 14 k + 1) sn) 15 (30 * k + 5 * M 14 k + 2) a) 15 (30 * k + 5 * M 14 k + 3) b) 15 (30 * k + 5 * M 14 k + 4) c) 14 k (M 14 k + 1)
def qP (N : mm_) (k : Int) : Int := sB k + 26 + 5 * N 239 (sB k + 25)
def qQ (N : mm_) (k sg sn : Int) : mm_ := up_ (up_ (up_ (up_ (up_ (up_ N 239 (qP N k) sg) 239 (qP N k + 1) sn) 239 (qP N k + 2) (N 242 0)) 239 (qP N k + 3) (N 242 1)) 239 (qP N k + 4) (N 242 2)) 239 (sB k + 25) (N 239 (sB k + 25) + 1)
theorem up5 [Inhabited fz_] {A : mm_} {r : Nat} {p x0 x1 x2 x3 x4 i : Int} : up_ (up_ (up_ (up_ (up_ A r p x0) r (p + 1) x1) r (p + 2) x2) r (p + 3) x3) r (p + 4) x4 r i = if i = p then x0 else if i = p + 1 then x1 else if i = p + 2 then x2 else if i = p + 3 then x3 else if i = p + 4 then x4 else A r i := by
  by_cases c0 : i = p
  · rw [if_pos c0, c0, upo (by omega), upo (by omega), upo (by omega), upo (by omega), up_at]
  · rw [if_neg c0]
    by_cases c1 : i = p + 1
    · rw [if_pos c1, c1, upo (by omega), upo (by omega), upo (by omega), up_at]
    · rw [if_neg c1]
      by_cases c2 : i = p + 2
      · rw [if_pos c2, c2, upo (by omega), upo (by omega), up_at]
      · rw [if_neg c2]
        by_cases c3 : i = p + 3
        · rw [if_pos c3, c3, upo (by omega), up_at]
        · rw [if_neg c3]
          by_cases c4 : i = p + 4
          · rw [if_pos c4, c4, up_at]
          · rw [if_neg c4, upo c4, upo c3, upo c2, upo c1, upo c0]
theorem sel5 [Inhabited fz_] {P x0 x1 x2 x3 x4 y d : Int} (h0 : 0 ≤ d) (h1 : d < 5) : (if P + d = P then x0 else if P + d = P + 1 then x1 else if P + d = P + 2 then x2 else if P + d = P + 3 then x3 else if P + d = P + 4 then x4 else y) = (if d = 0 then x0 else if d = 1 then x1 else if d = 2 then x2 else if d = 3 then x3 else x4) := by
  by_cases c0 : d = 0
  · rw [if_pos (by (clear h0 h1; lia)), if_pos c0]
  · rw [if_neg (by omega), if_neg c0]
    by_cases c1 : d = 1
    · rw [if_pos (by omega), if_pos c1]
    · rw [if_neg (by omega), if_neg c1]
      by_cases c2 : d = 2
      · rw [if_pos (by omega), if_pos c2]
      · rw [if_neg (by omega), if_neg c2]
        by_cases c3 : d = 3
        · rw [if_pos (by omega), if_pos c3]
        · rw [if_neg (by omega), if_neg c3, if_pos (by lia)]
theorem qX_r [Inhabited fz_] {r : Nat} (h : r ≠ 14) (h' : r ≠ 15) : qX M k sg sn a b c r = M r := by unfold qX; rw [up_ne h, up_ne h', up_ne h', up_ne h', up_ne h', up_ne h']
theorem qQ_r [Inhabited fz_] {r : Nat} (h : r ≠ 239) : qQ N k sg sn r = N r := by unfold qQ; rw [up_ne h, up_ne h, up_ne h, up_ne h, up_ne h, up_ne h]
theorem qX_15 [Inhabited fz_] {i : Int} : qX M k sg sn a b c 15 i = if i = 30 * k + 5 * M 14 k then sg else if i = 30 * k + 5 * M 14 k + 1 then sn else if i = 30 * k + 5 * M 14 k + 2 then a else if i = 30 * k + 5 * M 14 k + 3 then b else if i = 30 * k + 5 * M 14 k + 4 then c else M 15 i := by unfold qX; rw [up_ne (by decide)]; exact up5
theorem qX_14 [Inhabited fz_] {i : Int} : qX M k sg sn a b c 14 i = if i = k then M 14 k + 1 else M 14 i := by
  unfold qX
  by_cases e : i = k
  · rw [if_pos e, e, up_at]
  · rw [if_neg e, upo e, up_ne (by decide), up_ne (by decide), up_ne (by decide), up_ne (by decide), up_ne (by decide)]
theorem qQ_239 [Inhabited fz_] {i : Int} (h : 0 ≤ N 239 (sB k + 25)) : qQ N k sg sn 239 i = if i = sB k + 25 then N 239 (sB k + 25) + 1 else if i = qP N k then sg else if i = qP N k + 1 then sn else if i = qP N k + 2 then N 242 0 else if i = qP N k + 3 then N 242 1 else if i = qP N k + 4 then N 242 2 else N 239 i := by
  unfold qQ
  by_cases e : i = sB k + 25
  · rw [if_pos e, e, up_at]
  · rw [if_neg e, upo e]; exact up5
theorem RU_q [Inhabited fz_] (h : RU z M N) (hk : 0 ≤ k ∧ k < M 0 7) (hf : M 14 k ≠ 6) (hg : N 242 0 = a ∧ N 242 1 = b ∧ N 242 2 = c) : RU z (qX M k sg sn a b c) (qQ N k sg sn) := by
  obtain ⟨h1, h2, h3, h4, h5⟩ := h
  have hi := h1.2.2.1 k hk.1 hk.2
  have n12 := h1.1
  obtain ⟨i1, i2, i3, i4, ⟨⟨j1, j2, j3⟩, j4, j5⟩⟩ := id hi
  have hB : sB k = 2 + 56 * k := rfl
  have hP : qP N k = sB k + 26 + 5 * M 14 k := by unfold qP; rw [j3]
  have n : ∀ i, i ≠ sB k + 25 → (i < qP N k ∨ qP N k + 5 ≤ i) → qQ N k sg sn 239 i = N 239 i := fun i e1 e2 => by
    rw [qQ_239 (by (clear hk hf hg h1 h2 h3 h4 h5 hi n12 i1 i2 i3 i4 j4 j5 hB hP e1 e2; lia)), if_neg e1, if_neg (by omega), if_neg (by (clear hk hf hg h1 h2 h3 h4 h5 hi n12 i1 i2 i3 i4 j1 j2 j4 j5 e1; lia)), if_neg (by (clear hk hf hg h1 h2 h3 h4 h5 hi n12 i1 i2 i3 i4 j1 j2 j4 j5 e1; omega)), if_neg (by (clear hk hf hg h1 h2 h3 h4 h5 hi n12 i1 i2 i3 i4 j1 j2 j4 j5 e1; lia)), if_neg (by (clear hk hf hg h1 h2 h3 h4 h5 hi n12 i1 i2 i3 i4 j1 j2 j4 j5 e1; omega))]
  have m : ∀ i, (i < 30 * k + 5 * M 14 k ∨ 30 * k + 5 * M 14 k + 5 ≤ i) → qX M k sg sn a b c 15 i = M 15 i := fun i e2 => by
    rw [qX_15, if_neg (by (clear hk hf hg h1 h2 h3 h4 h5 hi n12 i1 i2 i3 i4 j1 j2 j4 j5 hB hP n; lia)), if_neg (by (clear hk hf hg h1 h2 h3 h4 h5 hi n12 i1 i2 i3 i4 j1 j2 j4 j5 hB hP n; lia)), if_neg (by (clear hk hf hg h1 h2 h3 h4 h5 hi n12 i1 i2 i3 i4 j1 j2 j4 j5 hB hP n; lia)), if_neg (by (clear hk hf hg h1 h2 h3 h4 h5 hi n12 i1 i2 i3 i4 j1 j2 j4 j5 hB hP n; omega)), if_neg (by (clear hk hf hg h1 h2 h3 h4 h5 hi n12 i1 i2 i3 i4 j1 j2 j4 j5 hB hP n; lia))]
  have x14 : qX M k sg sn a b c 14 k = M 14 k + 1 := by rw [qX_14, if_pos rfl]
  have n25 : qQ N k sg sn 239 (sB k + 25) = M 14 k + 1 := by rw [qQ_239 (by (clear hk hf hg h1 h2 h3 h4 h5 hi n12 i1 i2 i3 i4 j4 j5 hB hP n m; lia)), if_pos rfl, j3]
  have xr : ∀ q : Nat, q ≠ 14 → q ≠ 15 → qX M k sg sn a b c q = M q := fun q e1 e2 => qX_r e1 e2
  have nr : ∀ q : Nat, q ≠ 239 → qQ N k sg sn q = N q := fun q e => qQ_r e
  refine ⟨RI_k h1 hk ⟨by rw [xr 0 (by decide) (by decide)], by rw [xr 0 (by decide) (by decide)]⟩ (fun q hq i hi => ?_) (fun i _ => by rw [xr 13 (by decide) (by decide)]) (fun i hi => m i (by (clear hk hg h1 h2 h3 h4 h5 n12 i1 i2 i3 i4 j4 j5 hB hP n m xr nr; lia))) (fun i _ => by rw [xr 16 (by decide) (by decide), xr 17 (by decide) (by decide)]; exact ⟨rfl, rfl⟩) (fun i hi => n i (by (clear hk hf hg h1 h2 h3 h4 h5 n12 i1 i2 i3 i4 j1 j2 j3 j4 j5 hP n m x14 n25 xr nr; omega)) (by (clear hk hg h1 h2 h3 h4 h5 n12 i1 i2 i3 i4 j4 j5 n m xr nr; lia))) (by rw [nr 6 (by decide)]) (fun q hq => nr q (fun e => by rw [e] at hq; revert hq; decide)) ?_, RRt_k h2 (xr 21 (by decide) (by decide)) (xr 22 (by decide) (by decide)) (fun i hi => n i (by (clear hf hg h1 h2 h3 h4 h5 i1 i2 i3 i4 j1 j2 j3 j4 j5 hP n m x14 n25 xr nr; lia)) (by (clear hg h1 h2 h3 h4 h5 i1 i2 i3 i4 j4 j5 n m xr nr; lia))) (by rw [nr 6 (by decide)]), RSC_c h3 (fun i _ => by rw [xr 0 (by decide) (by decide)]) (fun i _ => by rw [nr 6 (by decide)]), ROU_c h4 (fun i _ => by rw [xr 0 (by decide) (by decide)]) (xr 24 (by decide) (by decide)) (fun i _ => by rw [nr 6 (by decide)]) (nr 241 (by decide)), REV_c h5 (fun i _ => by rw [xr 0 (by decide) (by decide)]) (xr 23 (by decide) (by decide)) (fun i _ => by rw [nr 6 (by decide)]) (nr 240 (by decide))⟩
  · by_cases e : q = 14
    · rw [e, qX_14, if_neg hi]
    · rw [xr q e (fun e2 => by rw [e2] at hq; revert hq; decide)]
  · unfold IN
    rw [xr 10 (by decide) (by decide), xr 11 (by decide) (by decide), xr 12 (by decide) (by decide), xr 18 (by decide) (by decide), xr 19 (by decide) (by decide), xr 20 (by decide) (by decide), xr 0 (by decide) (by decide), xr 13 (by decide) (by decide), xr 16 (by decide) (by decide), xr 17 (by decide) (by decide), nr 6 (by decide), nr 172 (by decide), nr 173 (by decide), nr 174 (by decide), x14, n25, n (sB k) (by (clear hk hf hg h1 h2 h3 h4 h5 hi n12 i1 i2 i3 i4 j1 j2 j3 j4 j5 hB hP n m x14 n25 xr nr; lia)) (by (clear hk hf hg h1 h2 h3 h4 h5 hi n12 i1 i2 i3 i4 j4 j5 n m xr nr; lia)), n (sB k + 1) (by (clear hk hf hg h1 h2 h3 h4 h5 hi n12 i1 i2 i3 i4 j1 j2 j3 j4 j5 hB hP n m x14 n25 xr nr; lia)) (by (clear hk hf hg h1 h2 h3 h4 h5 hi n12 i1 i2 i3 i4 j4 j5 n m xr nr; lia)), n (sB k + 2) (by (clear hk hf hg h1 h2 h3 h4 h5 hi n12 i1 i2 i3 i4 j1 j2 j3 j4 j5 hB hP n m x14 n25 xr nr; lia)) (by (clear hk hf hg h1 h2 h3 h4 h5 hi n12 i1 i2 i3 i4 j4 j5 n m xr nr; omega)), n (sB k + 3) (by (clear hk hf hg h1 h2 h3 h4 h5 hi n12 i1 i2 i3 i4 j1 j2 j3 j4 j5 hB hP n m x14 n25 xr nr; lia)) (by (clear hk hf hg h1 h2 h3 h4 h5 hi n12 i1 i2 i3 i4 j4 j5 n m xr nr; lia)), n (sB k + 4) (by (clear hk hf hg h1 h2 h3 h4 h5 hi n12 i1 i2 i3 i4 j1 j2 j3 j4 j5 hB hP n m x14 n25 xr nr; lia)) (by (clear hk hf hg h1 h2 h3 h4 h5 hi n12 i1 i2 i3 i4 j4 j5 n m xr nr; lia)), n (sB k + 5) (by (clear hk hf hg h1 h2 h3 h4 h5 hi n12 i1 i2 i3 i4 j1 j2 j3 j4 j5 hB hP n m x14 n25 xr nr; lia)) (by (clear hk hf hg h1 h2 h3 h4 h5 hi n12 i1 i2 i3 i4 j4 j5 n m xr nr; lia))]
    refine ⟨i1, i2, ⟨fun i i0 i1 => by rw [n _ (by (clear hk hf hg h1 h2 h3 h4 h5 hi n12 i2 i3 i4 j1 j2 j3 j4 j5 hB hP n m x14 n25 xr nr; lia)) (by (clear hk hf hg h1 h2 h3 h4 h5 hi n12 i2 i3 i4 j4 j5 n m xr nr; lia))]; exact i3.1 i i0 i1, fun i i0 i1 i2 => by rw [n _ (by omega) (by (clear hk hf hg h1 h2 h3 h4 h5 hi n12 i3 i4 j4 j5 n m xr nr i0; omega))]; exact i3.2 i i0 i1 i2⟩, fun t t0 t1 => by rw [n _ (by (clear hk hf hg h1 h2 h3 h4 h5 hi n12 i1 i2 i3 i4 j1 j2 j3 j4 j5 hB hP n m x14 n25 xr nr; omega)) (by (clear hk hf hg h1 h2 h3 h4 h5 hi n12 i1 i2 i3 i4 j4 j5 n m xr nr; lia))]; exact i4 t t0 t1, ⟨by (clear hk hf hg h1 h2 h3 h4 h5 hi n12 i1 i2 i3 i4 j4 j5 hB hP n m xr nr; lia), by (clear hk hg h1 h2 h3 h4 h5 hi n12 i1 i2 i3 i4 j4 j5 hB hP n m xr nr; lia), rfl⟩, fun i i0 i1 => ?_, fun i i0 i1 => by rw [n _ (by (clear hk hf hg h1 h2 h3 h4 h5 hi n12 i2 i3 i4 j4 j5 hB hP n m xr nr i1; lia)) (by (clear hk hf hg h1 h2 h3 h4 h5 hi n12 i2 i3 i4 j1 j2 j4 j5 n m xr nr i1; lia))]; exact j5 i (by (clear hk hf hg h1 h2 h3 h4 h5 hi n12 i2 i3 i4 j1 j2 j4 j5 hB hP n m xr nr i1; omega)) i1⟩
    by_cases e : i < 5 * M 14 k
    · rw [m _ (by (clear hk hf hg h1 h2 h3 h4 h5 hi n12 i2 i3 i4 j1 j2 j4 j5 hB hP n m xr nr i0 i1; lia)), n _ (by omega) (by (clear hk hf hg h1 h2 h3 h4 h5 hi n12 i2 i3 i4 j1 j2 j4 j5 n m xr nr i0 i1; lia))]; exact j4 i i0 e
    · obtain ⟨d, hd⟩ : ∃ d, i = 5 * M 14 k + d := ⟨i - 5 * M 14 k, by (clear hk hf hg h1 h2 h3 h4 h5 hi n12 i2 i3 i4 j1 j2 j3 j4 j5 hB hP n m x14 n25 xr nr i0 i1 e; lia)⟩
      rw [qX_15, qQ_239 (by (clear hk hf hg h1 h2 h3 h4 h5 hi n12 i2 i3 i4 j4 j5 hB hP n m xr nr i0 i1 e hd; lia)), hP, if_neg (by (clear hk hf hg h1 h2 h3 h4 h5 hi n12 i2 i3 i4 j1 j2 j4 j5 hB hP n m xr nr i1 e; lia) : ¬ sB k + 26 + i = sB k + 25), hg.1, hg.2.1, hg.2.2, hd, show 30 * k + (5 * M 14 k + d) = 30 * k + 5 * M 14 k + d by (clear hk hf hg h1 h2 h3 h4 h5 hi n12 i2 i3 i4 j1 j2 j3 j4 j5 hB hP n m x14 n25 xr nr i0 i1 e hd; lia), show sB k + 26 + (5 * M 14 k + d) = sB k + 26 + 5 * M 14 k + d by (clear hk hf hg h1 h2 h3 h4 h5 hi n12 i2 i3 i4 j1 j2 j3 j4 j5 hB hP n m x14 n25 xr nr i0 i1 e hd; lia), sel5 (by (clear hk hf hg h1 h2 h3 h4 h5 hi n12 i2 i3 i4 j1 j2 j4 j5 hB hP n m xr nr i0; lia)) (by (clear hk hf hg h1 h2 h3 h4 h5 hi n12 i2 i3 i4 j1 j2 j4 j5 hB hP n m xr nr i0; lia)), sel5 (by omega) (by omega)]
theorem x_9 [Inhabited fz_] (hk : 0 ≤ k ∧ k < 12) (ha : 0 ≤ a ∧ a ≤ 6) : Ex_ 1 9 [.inl k, .inl a] M [.inl (30 * k + 5 * a)] M := fun Qr Qt hq => t_9 fun V hV hW => b_9_0 (Tr_mono _) hV hW _ _ _ (by
  rw [w32_id (x := 6 * k) (by omega) (by omega), w32_id (x := 6 * k + a) (by omega) (by omega), w32_id (x := 5 * (6 * k + a)) (by (clear hq hV hW; lia)) (by omega), show 5 * (6 * k + a) = 30 * k + 5 * a by (clear hk ha hq hV hW; lia)]; exact hq)
/-- X: a signal comes -/
def cmX_ (M : mm_) (k sg sn a b c : Int) : mm_ := if M 14 k = 6 then loX M (M 10 k) sg sn else qX M k sg sn a b c
theorem x_8 [Inhabited fz_] (h : RU z M N) (hk : 0 ≤ k ∧ k < M 0 7) : Ex_ 3 8 [.inr (.inr 0), .inl k, .inl sg, .inl sn, .inl a, .inl b, .inl c] M [] (cmX_ M k sg sn a b c) := fun Qr Qt hq => t_8 fun V hV hW => b_8_0 (Tr_mono _) hV hW _ _ _ _ _ _ _ (by
  have n12 := h.1.1
  have j := (h.1.2.2.1 k hk.1 hk.2).2.2.2.2.1
  refine ⟨by (clear h hq hV hW j; lia), ?_⟩
  unfold cmX_ at hq
  by_cases e : M 14 k = 6
  · rw [if_pos e] at hq ⊢
    exact ⟨by omega, x_7 h _ _ (rv_i hq)⟩
  · rw [if_neg e] at hq ⊢
    refine ⟨by omega, Ex_le (d := 1) (by decide) (x_9 (by omega) (by (clear h hk hq hV hW n12 e; lia))) _ _ (ri_i ?_)⟩
    rw [w32_id (x := 30 * k + 5 * M 14 k + 1) (by (clear h hq hV hW n12 e; lia)) (by (clear h hq hV hW e; lia)), w32_id (x := 30 * k + 5 * M 14 k + 2) (by (clear h hq hV hW n12 e; lia)) (by omega), w32_id (x := 30 * k + 5 * M 14 k + 3) (by omega) (by omega), w32_id (x := 30 * k + 5 * M 14 k + 4) (by (clear h hq hV hW n12 e; lia)) (by omega), w32_id (x := M 14 k + 1) (by (clear h hk hq hV hW n12 e; lia)) (by omega)]
    exact ⟨by (clear h hq hV hW; lia), by omega, by omega, by (clear h hq hV hW; lia), by (clear h hq hV hW; lia), by omega, by omega, hq⟩)
theorem q_332 [Inhabited fz_] (h : RU z M N) (hk : 0 ≤ k ∧ k < M 0 7) : Ex_ 2 332 [.inr (.inr 6), .inl k, .inl sg, .inl sn] N [.inl (if M 14 k = 6 then 0 else 1)] (if M 14 k = 6 then N else qQ N k sg sn) := fun Qr Qt hq => t_332 fun V hV hW => b_332_0 (Tr_mono _) hV hW _ _ _ _ (by
  have n12 := h.1.1
  have j := (h.1.2.2.1 k hk.1 hk.2).2.2.2.2.1
  have hB : sB k = 2 + 56 * k := rfl
  refine q_323 (by omega) _ _ (ri_i ?_)
  rw [w32_id (x := sB k + 25) (by (clear h hq hV hW n12 j; omega)) (by omega)]
  refine ⟨by omega, ?_⟩
  rw [j.2.2]
  by_cases e : M 14 k = 6
  · rw [if_pos e, if_pos e] at hq
    rw [if_pos e]; exact ⟨.inl rfl, hq⟩
  · rw [if_neg e, if_neg e] at hq
    rw [if_neg e]
    have hP : qP N k = sB k + 25 + 1 + 5 * M 14 k := by unfold qP; rw [j.2.2]; (clear h hk hq hV hW n12 j hB e; lia)
    rw [w32_id (x := 5 * M 14 k) (by omega) (by omega), w32_id (x := sB k + 25 + 1) (by omega) (by omega), w32_id (x := sB k + 25 + 1 + 5 * M 14 k) (by (clear h hq hV hW n12 e hP; lia)) (by omega), w32_id (x := sB k + 25 + 1 + 5 * M 14 k + 1) (by lia) (by (clear h hq hV hW e hP; lia))]
    refine ⟨by omega, by omega, by omega, ?_⟩
    rw [← hP]
    refine b_332_60 (Tr_mono _) hV hW _ _ _ _ _ _ _ ?_
    rw [if_pos (by decide), w32_id (x := qP N k + 2) (by omega) (by (clear h hq hV hW e; lia)), w32_id (x := qP N k + 2 + 0) (by omega) (by (clear h hq hV hW e; lia)), w32_id (x := (0 : Int) + 1) (by decide) (by decide)]
    refine ⟨by decide, by (clear h hq hV hW e; lia), ?_⟩
    refine b_332_60 (Tr_mono _) hV hW _ _ _ _ _ _ _ ?_
    rw [if_pos (by decide), w32_id (x := qP N k + 2) (by (clear h hq hV hW n12 e; omega)) (by omega), w32_id (x := qP N k + 2 + (0 + 1)) (by omega) (by omega), w32_id (x := (0 : Int) + 1 + 1) (by decide) (by decide)]
    refine ⟨by decide, by omega, ?_⟩
    refine b_332_60 (Tr_mono _) hV hW _ _ _ _ _ _ _ ?_
    rw [if_pos (by decide), w32_id (x := qP N k + 2) (by omega) (by omega), w32_id (x := qP N k + 2 + (0 + 1 + 1)) (by (clear h hq hV hW n12 e; lia)) (by omega), w32_id (x := (0 : Int) + 1 + 1 + 1) (by decide) (by decide)]
    refine ⟨by decide, by omega, ?_⟩
    refine b_332_60 (Tr_mono _) hV hW _ _ _ _ _ _ _ ?_
    rw [if_neg (by decide)]
    refine ⟨by omega, by omega, .inr rfl, ?_⟩
    have g : ∀ i, up_ (up_ N 239 (qP N k) sg) 239 (qP N k + 1) sn 242 i = N 242 i := fun i => by rw [up_ne (by decide), up_ne (by decide)]
    rw [g, up_ne (r' := 242) (by decide), g, up_ne (r' := 242) (by decide), up_ne (r' := 242) (by decide), g, show qP N k + 2 + 0 = qP N k + 2 by (clear h hk hq hV hW n12 j hB e hP g; lia), show qP N k + 2 + (0 + 1) = qP N k + 3 by omega, show qP N k + 2 + (0 + 1 + 1) = qP N k + 4 by omega, up5 (i := sB k + 25), if_neg (by (clear h hk hq hV hW n12 e g; lia)), if_neg (by omega), if_neg (by omega), if_neg (by omega), if_neg (by omega), j.2.2, w32_id (x := M 14 k + 1) (by omega) (by omega)]
    unfold qQ at hq
    rw [j.2.2] at hq; exact hq)
end IQa
end T333_iq
section T334_ar
/-! the run: a signal arrives -/
def outX (M : mm_) (sg sn a b c : Int) : mm_ := up_ (up_ (up_ (up_ (up_ (up_ (up_ (up_ (up_ M 24 (6 * M 0 33) sg) 24 (6 * M 0 33 + 1) sn) 24 (6 * M 0 33 + 2) (M 0 9)) 24 (6 * M 0 33 + 3) a) 24 (6 * M 0 33 + 4) b) 24 (6 * M 0 33 + 5) c) 0 33 ((M 0 33 + 1) % 200)) 0 34 (if M 0 34 < 200 then M 0 34 + 1 else 200)) 0 32 (w32 (M 0 32 + 1))
def outQ (N : mm_) (sg sn : Int) : mm_ := up_ (up_ (up_ (up_ (up_ (up_ (up_ (up_ (up_ N 241 (6 * N 6 144) sg) 241 (6 * N 6 144 + 1) sn) 241 (6 * N 6 144 + 2) (N 6 128)) 241 (6 * N 6 144 + 3) (N 242 0)) 241 (6 * N 6 144 + 4) (N 242 1)) 241 (6 * N 6 144 + 5) (N 242 2)) 6 144 ((N 6 144 + 1) % 200)) 6 145 (if N 6 145 < 200 then N 6 145 + 1 else 200)) 6 137 (w32 (N 6 137 + 1))
def aX (M : mm_) (sg sn rc a b c : Int) : mm_ := if rc = 0 then (if evX M 4 0 sg sn 0 25 = 0 then outX (evX M 4 0 sg sn) sg sn a b c else evX M 4 0 sg sn) else if fi_ (M 10) rc (M 0 7).toNat 0 = -1 then loX M rc sg sn else cmX_ M (fi_ (M 10) rc (M 0 7).toNat 0) sg sn a b c
def slQ (N : mm_) (p : Int) : Int := fi_ (fun i => N 239 (sB i)) p (N 239 0).toNat 0
def cmQ_ (N : mm_) (k sg sn p : Int) : mm_ := if N 239 (sB k + 25) = 6 then loQ N p sg sn else qQ N k sg sn
def aQ (N : mm_) (sg sn rc : Int) : mm_ := if rc = 0 then (if evQ N 4 0 sg sn 6 127 = 0 then outQ (evQ N 4 0 sg sn) sg sn else evQ N 4 0 sg sn) else if slQ N rc < 0 then loQ N rc sg sn else cmQ_ N (slQ N rc) sg sn rc
section ARa
variable {z : Int} {M N M' N' : mm_} {k a b c sg sn rc p : Int}
theorem up6 [Inhabited fz_] {A : mm_} {r : Nat} {p x0 x1 x2 x3 x4 x5 i : Int} : up_ (up_ (up_ (up_ (up_ (up_ A r p x0) r (p + 1) x1) r (p + 2) x2) r (p + 3) x3) r (p + 4) x4) r (p + 5) x5 r i = if i = p + 5 then x5 else if i = p then x0 else if i = p + 1 then x1 else if i = p + 2 then x2 else if i = p + 3 then x3 else if i = p + 4 then x4 else A r i := by
  by_cases c5 : i = p + 5
  · rw [if_pos c5, c5, up_at]
  · rw [if_neg c5, upo c5, up5]
theorem outX_r [Inhabited fz_] {r : Nat} (h : r ≠ 0) (h' : r ≠ 24) : outX M sg sn a b c r = M r := by unfold outX; rw [up_ne h, up_ne h, up_ne h, up_ne h', up_ne h', up_ne h', up_ne h', up_ne h', up_ne h']
theorem outX_0 [Inhabited fz_] {i : Int} (h : i ∉ [32, 33, 34]) : outX M sg sn a b c 0 i = M 0 i := by
  have e : ∀ x : Int, x ∈ [32, 33, 34] → i ≠ x := fun x hx e => h (by rw [e]; exact hx)
  unfold outX; rw [upo (e 32 (by decide)), upo (e 34 (by decide)), upo (e 33 (by decide)), up_ne (by decide), up_ne (by decide), up_ne (by decide), up_ne (by decide), up_ne (by decide), up_ne (by decide)]
theorem outQ_r [Inhabited fz_] {r : Nat} (h : r ≠ 6) (h' : r ≠ 241) : outQ N sg sn r = N r := by unfold outQ; rw [up_ne h, up_ne h, up_ne h, up_ne h', up_ne h', up_ne h', up_ne h', up_ne h', up_ne h']
theorem outQ_6 [Inhabited fz_] {i : Int} (h : i ∉ [137, 144, 145]) : outQ N sg sn 6 i = N 6 i := by
  have e : ∀ x : Int, x ∈ [137, 144, 145] → i ≠ x := fun x hx e => h (by rw [e]; exact hx)
  unfold outQ; rw [upo (e 137 (by decide)), upo (e 145 (by decide)), upo (e 144 (by decide)), up_ne (by decide), up_ne (by decide), up_ne (by decide), up_ne (by decide), up_ne (by decide), up_ne (by decide)]
theorem RU_out [Inhabited fz_] (h : RU z M N) (hz : z = 0) (hg : N 242 0 = a ∧ N 242 1 = b ∧ N 242 2 = c) : RU z (outX M sg sn a b c) (outQ N sg sn) := by
  obtain ⟨h1, h2, h3, ⟨⟨o1, o2, o3⟩, o4⟩, h5⟩ := h
  have xr : ∀ q : Nat, q ≠ 0 → q ≠ 24 → outX M sg sn a b c q = M q := fun q e e' => outX_r e e'
  have nr : ∀ q : Nat, q ≠ 6 → q ≠ 241 → outQ N sg sn q = N q := fun q e e' => outQ_r e e'
  have x0 : ∀ i : Int, i ∉ [32, 33, 34] → outX M sg sn a b c 0 i = M 0 i := fun i hi => outX_0 hi
  have n6 : ∀ i : Int, i ∉ [137, 144, 145] → outQ N sg sn 6 i = N 6 i := fun i hi => outQ_6 hi
  refine ⟨RI_c h1 ⟨x0 7 (by decide), x0 8 (by decide)⟩ (fun q hq => xr q (fun e => by rw [e] at hq; revert hq; decide) (fun e => by rw [e] at hq; revert hq; decide)) (nr 239 (by decide) (by decide)) (n6 19 (by decide)) (fun q hq => nr q (fun e => by rw [e] at hq; revert hq; decide) (fun e => by rw [e] at hq; revert hq; decide)), RRt_c h2 (xr 21 (by decide) (by decide)) (xr 22 (by decide) (by decide)) (nr 239 (by decide) (by decide)) (n6 18 (by decide)), RSC_c h3 (fun i hi => x0 i (fun e => by simp only [List.mem_cons, List.not_mem_nil, or_false] at e hi; (clear hz hg h1 h2 h3 h5 o4 o1 o2 o3 xr nr x0 n6; omega))) (fun i hi => n6 i (fun e => by simp only [List.mem_cons, List.not_mem_nil, or_false] at e hi; (clear hz hg h1 h2 h3 h5 o4 o1 o2 o3 xr nr x0 n6; omega))), ?_, REV_c h5 (fun i hi => x0 i (fun e => by simp only [List.mem_cons, List.not_mem_nil, or_false] at e hi; (clear hz hg h1 h2 h3 h5 o4 o1 o2 o3 xr nr x0 n6; lia))) (xr 23 (by decide) (by decide)) (fun i hi => n6 i (fun e => by simp only [List.mem_cons, List.not_mem_nil, or_false] at e hi; (clear hz hg h1 h2 h3 h5 o4 o1 o2 o3 xr nr x0 n6; lia))) (nr 240 (by decide) (by decide))⟩
  have now := h3.2.1.1
  refine ⟨⟨?_, ⟨?_, ?_⟩, ?_, ?_⟩, fun i i0 i1 => ⟨?_, fun c1 => absurd c1 (by omega)⟩⟩
  · unfold outX outQ; rw [up_at, up_at, o1]
  · unfold outX outQ; rw [upo (by decide), upo (by decide), up_at, upo (by decide), upo (by decide), up_at, o2.1]
  · unfold outX; rw [upo (by decide), upo (by decide), up_at]; (clear hz hg h1 h2 h3 h5 o4 o1 o3 xr nr x0 n6 now; omega)
  · unfold outX outQ; rw [upo (by decide), up_at, upo (by decide), up_at, o3.1]
  · unfold outX; rw [upo (by decide), up_at]; split <;> omega
  · unfold outX outQ
    rw [up_ne (r' := 24) (by decide), up_ne (r' := 24) (by decide), up_ne (r' := 24) (by decide), up_ne (r' := 241) (by decide), up_ne (r' := 241) (by decide), up_ne (r' := 241) (by decide), up6, up6, o2.1, now, hg.1, hg.2.1, hg.2.2, (o4 i i0 i1).1]
theorem RU_cm [Inhabited fz_] (h : RU z M N) (hk : 0 ≤ k ∧ k < M 0 7) (hg : N 242 0 = a ∧ N 242 1 = b ∧ N 242 2 = c) (hp : M 10 k = p) : RU z (cmX_ M k sg sn a b c) (cmQ_ N k sg sn p) := by
  have j := (h.1.2.2.1 k hk.1 hk.2).2.2.2.2.1
  unfold cmX_ cmQ_
  rw [j.2.2]
  by_cases e : M 14 k = 6
  · rw [if_pos e, if_pos e, hp]; exact RU_lo h
  · rw [if_neg e, if_neg e]; exact RU_q h hk e hg
theorem RU_n [Inhabited fz_] (h : RU z M N) : ∃ n : Nat, M 0 7 = n ∧ N 239 0 = n ∧ n ≤ 12 ∧ (M 0 7).toNat = n ∧ (N 239 0).toNat = n := ⟨(M 0 7).toNat, by have := h.1.1; (clear h; lia)⟩
theorem slQ_e [Inhabited fz_] (h : RU z M N) : slQ N p = fi_ (M 10) p (M 0 7).toNat 0 := by
  obtain ⟨n, n1, n2, n3, n4, n5⟩ := RU_n h
  unfold slQ
  rw [n5, ← n4]; exact RU_sl h
theorem RU_a [Inhabited fz_] (h : RU z M N) (hg : N 242 0 = a ∧ N 242 1 = b ∧ N 242 2 = c) : RU z (aX M sg sn rc a b c) (aQ N sg sn rc) := by
  unfold aX aQ
  by_cases e : rc = 0
  · rw [if_pos e, if_pos e]
    have h1 := RU_ev (k := 4) (a := 0) (s := sg) (b := sn) h
    have g1 : evQ N 4 0 sg sn 242 = N 242 := EvQ_ev.1 242 (by decide) (by decide)
    have s := h1.2.2.1.1
    by_cases c0 : z = 0
    · rw [if_pos (show evX M 4 0 sg sn 0 25 = 0 by (clear h hg e h1 g1; lia)), if_pos (show evQ N 4 0 sg sn 6 127 = 0 by (clear h hg e h1 g1; lia))]
      exact RU_out h1 c0 (by rw [g1]; exact hg)
    · rw [if_neg (show ¬ evX M 4 0 sg sn 0 25 = 0 by (clear h hg e h1 g1; lia)), if_neg (show ¬ evQ N 4 0 sg sn 6 127 = 0 by (clear h hg e h1 g1; lia))]
      exact h1
  · rw [if_neg e, if_neg e, slQ_e h]
    obtain ⟨n, n1, n2, n3, n4, n5⟩ := RU_n h
    rcases fi_rg (g := M 10) (v := rc) (n := (M 0 7).toNat) with c1 | c1
    · rw [if_pos c1, if_pos (by omega)]; exact RU_lo h
    · rw [if_neg (by omega), if_neg (by omega)]
      exact RU_cm h (by (clear h hg e n3; lia)) hg c1.2.2
theorem x_4 [Inhabited fz_] (h : RU z M N) : Ex_ 4 4 [.inr (.inr 0), .inl sg, .inl sn, .inl rc, .inl a, .inl b, .inl c] M [] (aX M sg sn rc a b c) := fun Qr Qt hq => t_4 fun V hV hW => b_4_0 (Tr_mono _) hV hW _ _ _ _ _ _ _ (by
  unfold aX at hq
  obtain ⟨b1, b2, b3⟩ := RU_b5 h
  by_cases e : rc = 0
  · rw [if_pos e] at hq ⊢
    refine Ex_le (d := 1) (by decide) (x_5 b1 b2 b3) _ _ (rv_i (fun _ => ?_))
    have h1 := RU_ev (k := 4) (a := 0) (s := sg) (b := sn) h
    have o := h1.2.2.2.1.1
    generalize evX M 4 0 sg sn = M1 at *
    by_cases c0 : M1 0 25 = 0
    · rw [if_pos c0] at hq ⊢
      rw [w32_id (x := 6 * M1 0 33) (by omega) (by omega), w32_id (x := 6 * M1 0 33 + 1) (by omega) (by omega), w32_id (x := 6 * M1 0 33 + 2) (by omega) (by omega), w32_id (x := 6 * M1 0 33 + 3) (by (clear h hV hW b1 b2 b3 e hq h1 c0; lia)) (by omega), w32_id (x := 6 * M1 0 33 + 4) (by omega) (by omega), w32_id (x := 6 * M1 0 33 + 5) (by (clear h hV hW b1 b2 b3 e hq h1 c0; omega)) (by (clear h hV hW b1 b2 b3 e hq h1 c0; omega)), w32_id (x := M1 0 33 + 1) (by omega) (by omega), w32_id (x := M1 0 34 + 1) (by omega) (by (clear h hV hW b1 b2 b3 e hq h1 c0; omega)), Int.tmod_eq_emod_of_nonneg (by omega)]
      refine ⟨by (clear h hV hW b1 b2 b3 e hq h1 c0; omega), by omega, by omega, by (clear h hV hW b1 b2 b3 e hq h1 c0; lia), by omega, by omega, by decide, ?_⟩
      unfold outX at hq
      have : (if M1 0 34 + 1 < 200 then M1 0 34 + 1 else 200) = (if M1 0 34 < 200 then M1 0 34 + 1 else 200) := by
        by_cases c : M1 0 34 + 1 < 200
        · rw [if_pos c, if_pos (by omega)]
        · rw [if_neg c]
          split <;> omega
      rw [this]; exact hq
    · rw [if_neg c0] at hq ⊢; exact hq
  · rw [if_neg e] at hq ⊢
    obtain ⟨n, n1, n2, n3, n4, n5⟩ := RU_n h
    rw [n4] at hq
    refine Ex_le (d := 1) (by decide) (x_6 n1 n3) _ _ (ri_i ?_)
    rcases fi_rg (g := M 10) (v := rc) (n := n) with c1 | c1
    · rw [if_pos c1] at hq ⊢
      exact Ex_le (d := 2) (by decide) (x_7 h) _ _ (rv_i hq)
    · rw [if_neg (by omega)] at hq ⊢
      exact x_8 h (by omega) _ _ (rv_i hq))
theorem q_330 [Inhabited fz_] (h : RU z M N) : Ex_ 1 330 [.inr (.inr 6), .inl sg, .inl sn] N [] (outQ N sg sn) := fun Qr Qt hq => t_330 fun V hV hW => b_330_0 (Tr_mono _) hV hW _ _ _ (by
  have o := h.2.2.2.1.1
  have o2 : 0 ≤ N 6 144 ∧ N 6 144 < 200 := by omega
  have o3 : 0 ≤ N 6 145 ∧ N 6 145 ≤ 200 := by omega
  rw [w32_id (x := 6 * N 6 144) (by (clear h hq hV hW o2 o3; omega)) (by omega), w32_id (x := 6 * N 6 144 + 1) (by omega) (by omega), w32_id (x := 6 * N 6 144 + 2) (by (clear h hq hV hW o2 o3; omega)) (by omega)]
  refine ⟨by omega, by (clear h hq hV hW o2 o3; lia), by omega, ?_⟩
  refine b_330_39 (Tr_mono _) hV hW _ _ _ _ _ ?_
  rw [if_pos (by decide), w32_id (x := 6 * N 6 144 + 3) (by omega) (by omega), w32_id (x := 6 * N 6 144 + 3 + 0) (by omega) (by omega), w32_id (x := (0 : Int) + 1) (by decide) (by decide)]
  refine ⟨by decide, by omega, ?_⟩
  refine b_330_39 (Tr_mono _) hV hW _ _ _ _ _ ?_
  rw [if_pos (by decide), w32_id (x := 6 * N 6 144 + 3) (by omega) (by omega), w32_id (x := 6 * N 6 144 + 3 + (0 + 1)) (by (clear h hq hV hW o2 o3; lia)) (by omega), w32_id (x := (0 : Int) + 1 + 1) (by decide) (by decide)]
  refine ⟨by decide, by omega, ?_⟩
  refine b_330_39 (Tr_mono _) hV hW _ _ _ _ _ ?_
  rw [if_pos (by decide), w32_id (x := 6 * N 6 144 + 3) (by omega) (by omega), w32_id (x := 6 * N 6 144 + 3 + (0 + 1 + 1)) (by omega) (by omega), w32_id (x := (0 : Int) + 1 + 1 + 1) (by decide) (by decide)]
  refine ⟨by decide, by omega, ?_⟩
  refine b_330_39 (Tr_mono _) hV hW _ _ _ _ _ ?_
  rw [if_neg (by decide)]
  refine ⟨by decide, ?_⟩
  have g : ∀ (q : Nat) (i : Int), q ≠ 241 → up_ (up_ (up_ N 241 (6 * N 6 144) sg) 241 (6 * N 6 144 + 1) sn) 241 (6 * N 6 144 + 2) (N 6 128) q i = N q i := fun q i hq => by rw [up_ne hq, up_ne hq, up_ne hq]
  have e1 : ∀ (q : Nat) (i x y : Int), q ≠ 241 → up_ (up_ (up_ (up_ N 241 (6 * N 6 144) sg) 241 (6 * N 6 144 + 1) sn) 241 (6 * N 6 144 + 2) (N 6 128)) 241 x y q i = N q i := fun q i x y hq => by rw [up_ne hq, g q i hq]
  have e2 : ∀ (q : Nat) (i x y x' y' : Int), q ≠ 241 → up_ (up_ (up_ (up_ (up_ N 241 (6 * N 6 144) sg) 241 (6 * N 6 144 + 1) sn) 241 (6 * N 6 144 + 2) (N 6 128)) 241 x y) 241 x' y' q i = N q i := fun q i x y x' y' hq => by rw [up_ne hq, e1 q i x y hq]
  have e3 : ∀ (q : Nat) (i x y x' y' x2 y2 : Int), q ≠ 241 → up_ (up_ (up_ (up_ (up_ (up_ N 241 (6 * N 6 144) sg) 241 (6 * N 6 144 + 1) sn) 241 (6 * N 6 144 + 2) (N 6 128)) 241 x y) 241 x' y') 241 x2 y2 q i = N q i := fun q i x y x' y' x2 y2 hq => by rw [up_ne hq, e2 q i x y x' y' hq]
  rw [e3 6 145 _ _ _ _ _ _ (by decide), e3 6 144 _ _ _ _ _ _ (by decide), e3 6 137 _ _ _ _ _ _ (by decide), g 242 0 (by decide), e1 242 _ _ _ (by decide), e2 242 _ _ _ _ _ (by decide), show 6 * N 6 144 + 3 + 0 = 6 * N 6 144 + 3 by (clear h hq hV hW o o2 o3 g e1 e2 e3; lia), show 6 * N 6 144 + 3 + (0 + 1) = 6 * N 6 144 + 4 by omega, show 6 * N 6 144 + 3 + (0 + 1 + 1) = 6 * N 6 144 + 5 by omega, w32_id (x := N 6 144 + 1) (by omega) (by omega), Int.tmod_eq_emod_of_nonneg (by omega), w32_id (x := N 6 145 + 1) (by omega) (by omega)]
  unfold outQ at hq
  by_cases c : N 6 145 < 200
  · rw [if_pos c] at hq ⊢; exact hq
  · rw [if_neg c] at hq ⊢; exact hq)
theorem q_329 [Inhabited fz_] (h : RU z M N) : Ex_ 3 329 [.inr (.inr 6), .inl sg, .inl sn, .inl rc] N [] (aQ N sg sn rc) := fun Qr Qt hq => t_329 fun V hV hW => b_329_0 (Tr_mono _) hV hW _ _ _ _ (by
  unfold aQ at hq
  obtain ⟨b1, b2, b3⟩ := RU_b324 h
  by_cases e : rc = 0
  · rw [if_pos e] at hq ⊢
    refine Ex_le (d := 1) (by decide) (q_324 b1 b2 b3) _ _ (rv_i (fun _ => ?_))
    have h1 := RU_ev (k := 4) (a := 0) (s := sg) (b := sn) h
    generalize evQ N 4 0 sg sn = N1 at *
    by_cases c0 : N1 6 127 = 0
    · rw [if_pos c0] at hq ⊢
      exact Ex_le (d := 1) (by decide) (q_330 h1) _ _ (rv_i hq)
    · rw [if_neg c0] at hq ⊢; exact hq
  · rw [if_neg e, slQ_e h] at hq
    rw [if_neg e]
    obtain ⟨n, n1, n2, n3, n4, n5⟩ := RU_n h
    have sl := RU_sl (p := rc) h
    rw [n4] at hq sl
    refine q_331 n2 n3 _ _ (ri_i ?_)
    rw [sl]
    rcases fi_rg (g := M 10) (v := rc) (n := n) with c1 | c1
    · rw [if_pos (by omega)] at hq ⊢
      exact q_333 h _ _ (rv_i hq)
    · rw [if_neg (by omega)] at hq ⊢
      have hk : 0 ≤ fi_ (M 10) rc n 0 ∧ fi_ (M 10) rc n 0 < M 0 7 := by (clear h hV hW b1 b2 b3 e hq n3 sl; omega)
      have j := (h.1.2.2.1 _ hk.1 hk.2).2.2.2.2.1
      unfold cmQ_ at hq
      rw [j.2.2] at hq
      refine q_332 h hk _ _ (ri_i ?_)
      by_cases c2 : M 14 (fi_ (M 10) rc n 0) = 6
      · rw [if_pos c2] at hq
        rw [if_pos c2, if_pos c2, if_pos rfl]
        exact q_333 h _ _ (rv_i hq)
      · rw [if_neg c2] at hq
        rw [if_neg c2, if_neg c2, if_neg (by decide)]; exact hq)
end ARa
end T334_ar
section T335_la
/-! the run: the first on a route arrives -/
/-- within a method: from one place to another -/
def RC (d : Nat) (m : md_) (pc : Nat) (ls : lo_) (M : mm_) (pc' : Nat) (ls' : lo_) (M' : mm_) : Prop := ∀ (V : vv_) (Qr : qr_) (Qt : qt_), Cl_ wd0 (Tr_ wd0 pg0 d) V Qr Qt m → Wk_ V → V pc' ls' [] M' → V pc ls [] M
theorem RC_rf [Inhabited fz_] {d : Nat} {m : md_} {pc : Nat} {ls : lo_} {M : mm_} : RC d m pc ls M pc ls M := fun _ _ _ _ _ h => h
theorem RC_tr [Inhabited fz_] {d : Nat} {m : md_} {pc pc1 pc2 : Nat} {ls l1 l2 : lo_} {M M1 M2 : mm_} (h : RC d m pc ls M pc1 l1 M1) (g : RC d m pc1 l1 M1 pc2 l2 M2) : RC d m pc ls M pc2 l2 M2 := fun V Qr Qt hV hW hk => h V Qr Qt hV hW (g V Qr Qt hV hW hk)
section LAa
variable {z : Int} {M N M' N' : mm_} {r k a b c sg sn rc p : Int}
theorem RI_l [Inhabited fz_] (h : RI z M N) (h0 : M' 0 7 = M 0 7 ∧ M' 0 8 = M 0 8) (hx : ∀ q : Nat, q ∈ [10, 11, 12, 13, 14, 15, 16, 17, 18, 19, 20] → M' q = M q) (hN : ∀ i, i < 674 → N' 239 i = N 239 i) (h19 : N' 6 19 = N 6 19) (hq : ∀ q : Nat, q ∈ [172, 173, 174] → N' q = N q) : RI z M' N' := by
  obtain ⟨a1, a2, a3, a4⟩ := h
  refine ⟨by rw [h0.1, hN 0 (by decide)]; exact a1, by rw [h0.2, hN 1 (by decide)]; exact a2, fun k k0 k1 => ?_, fun k k0 k1 i i0 i1 => ?_⟩
  · rw [h0.1] at k1
    have hB : sB k = 2 + 56 * k := rfl
    exact IN_o (a3 k k0 k1) (Int.le_of_eq h0.2.symm) (fun q hq' => by rw [hx q (by simp only [List.mem_cons, List.not_mem_nil, or_false] at hq' ⊢; (clear h0 hx hN h19 hq a1 a2 a3 a4 k0 k1 hB; lia))]) (fun i _ _ => by rw [hx 13 (by decide)]) (fun i _ _ => by rw [hx 15 (by decide)]) (fun i _ _ => by rw [hx 16 (by decide), hx 17 (by decide)]; exact ⟨rfl, rfl⟩) (fun i i0 i1 => hN _ (by (clear h0 hx hN h19 hq a2 a3 a4; omega))) h19 hq
  · rw [h0.1] at k0
    have hB : sB k = 2 + 56 * k := rfl
    rw [hN _ (by (clear h0 hx hN h19 hq a2 a3 a4; lia))]; exact a4 k k0 k1 i i0 i1
theorem RRt_r [Inhabited fz_] (h : RRt z M N) (hr : 0 ≤ r ∧ r < N 6 18) (h21 : ∀ i, i ≠ r → M' 21 i = M 21 i) (h22 : ∀ i, i < 42 * r ∨ 42 * r + 42 ≤ i → M' 22 i = M 22 i) (hN : ∀ i, i < sR r ∨ sR r + 43 ≤ i → N' 239 i = N 239 i) (h18 : N' 6 18 = N 6 18) (hR : RO z M' N' r) : RRt z M' N' := by
  obtain ⟨a1, a2, a3⟩ := h
  have hr' : sR r = 674 + 43 * r := rfl
  refine ⟨by rw [h18]; exact a1, fun q q0 q1 => ?_, fun q q0 q1 i i0 i1 => ?_⟩
  · rw [h18] at q1
    by_cases e : q = r
    · rw [e]; exact hR
    · have hq' : sR q = 674 + 43 * q := rfl
      obtain ⟨b1, b2, b3⟩ := a2 q q0 q1
      unfold RO
      rw [h21 q e, hN (sR q) (by (clear hr h21 h22 hN h18 hR a1 a2 a3 q0 q1 b1 b2 b3; lia))]
      refine ⟨b1, fun j j0 j1 => ?_, fun i i0 i1 => by rw [hN _ (by (clear hr h21 h22 hN h18 hR a1 a2 a3 q0 q1 b2 b3; lia))]; exact b3 i i0 i1⟩
      obtain ⟨c1, c2, c3, c4⟩ := b2 j j0 j1
      exact ⟨fun i i0 i1 i2 => by rw [h22 _ (by (clear hr h21 h22 hN h18 hR a1 a2 a3 hr' q0 q1 hq' b2 b3 c1 c2; lia)), hN _ (by (clear hr h21 h22 hN h18 hR a1 a2 a3 q0 q1 b2 b3 c1 c2; lia))]; exact c1 i i0 i1 i2, by rw [h22 _ (by (clear hr h21 h22 hN h18 hR a1 a2 a3 hr' q0 q1 hq' b2 b3 c1 c2; lia))]; exact c2, fun hz => by rw [h22 _ (by omega), hN _ (by (clear hr h21 h22 hN h18 hR a1 a2 a3 q0 q1 b2 b3 c1 c2; lia))]; exact c3 hz, fun hz => by rw [hN _ (by (clear hr h21 h22 hN h18 hR a1 a2 a3 q0 q1 b2 b3 c1 c2; lia))]; exact c4 hz⟩
  · rw [h18] at q0
    have hq' : sR q = 674 + 43 * q := rfl
    rw [hN _ (by omega)]; exact a3 q q0 q1 i i0 i1
/-- the first row goes -/
def shX (M : mm_) (r : Int) : mm_ := wr_ (up_ M 21 r (M 21 r - 1)) 22 (cpf (M 22) (42 * r) (42 * r + 7 * (M 21 r - 1)) 7)
def shF (f : Int → Int) (q : Int) : Int → Int := su_ (flf (cpf f (q + 1) (q + 36) 7) (q + 36) (q + 43) 0) q (f q - 1)
def shQ (N : mm_) (r : Int) : mm_ := wr_ (up_ (up_ (up_ N 242 0 (N 239 (sR r + 5))) 242 1 (N 239 (sR r + 6))) 242 2 (N 239 (sR r + 7))) 239 (shF (N 239) (sR r))
theorem shQ_r [Inhabited fz_] {q : Nat} (h : q ≠ 239) (h' : q ≠ 242) : shQ N r q = N q := by unfold shQ; rw [wr_ne h, up_ne h', up_ne h', up_ne h']
theorem shQ_2 [Inhabited fz_] : shQ N r 242 0 = N 239 (sR r + 5) ∧ shQ N r 242 1 = N 239 (sR r + 6) ∧ shQ N r 242 2 = N 239 (sR r + 7) := by
  unfold shQ
  rw [wr_ne (by decide)]
  exact ⟨by rw [upo (by decide), upo (by decide), up_at], by rw [upo (by decide), up_at], up_at⟩
theorem RU_sh [Inhabited fz_] (h : RU z M N) (hr : 0 ≤ r ∧ r < N 6 18) (h1 : 0 < M 21 r) : RU z (shX M r) (shQ N r) := by
  obtain ⟨r1, r2, r3, r4, r5⟩ := h
  have hR : sR r = 674 + 43 * r := rfl
  obtain ⟨⟨b1, b2, b3⟩, b4, b5⟩ := r2.2.1 r hr.1 hr.2
  have xr : ∀ q : Nat, q ≠ 21 → q ≠ 22 → shX M r q = M q := fun q e e' => by unfold shX; rw [wr_ne e', up_ne e]
  have nr : ∀ q : Nat, q ≠ 239 → q ≠ 242 → shQ N r q = N q := fun q e e' => shQ_r e e'
  have n239 : shQ N r 239 = shF (N 239) (sR r) := wr_same
  have x22 : shX M r 22 = cpf (M 22) (42 * r) (42 * r + 7 * (M 21 r - 1)) 7 := wr_same
  have x21 : ∀ i, shX M r 21 i = if i = r then M 21 r - 1 else M 21 i := fun i => by
    unfold shX
    rw [wr_ne (by decide)]
    by_cases e : i = r
    · rw [if_pos e, e, up_at]
    · rw [if_neg e, upo e]
  have no : ∀ i, i < sR r ∨ sR r + 43 ≤ i → shQ N r 239 i = N 239 i := fun i hi => by
    rw [n239]; unfold shF su_ flf cpf
    rw [if_neg (by omega), if_neg (by omega), if_neg (by omega)]
  have ni : ∀ i, 0 ≤ i → i < 42 → shQ N r 239 (sR r + 1 + i) = if i < 35 then N 239 (sR r + 1 + i + 7) else 0 := fun i i0 i1 => by
    rw [n239]; unfold shF su_ flf cpf
    rw [if_neg (by (clear hr h1 r1 r2 r3 r4 r5 hR b1 b2 b3 b4 b5 xr nr n239 x22 x21 no; lia))]
    by_cases e : i < 35
    · rw [if_pos e, if_neg (by (clear hr h1 r1 r2 r3 r4 r5 hR b1 b2 b3 b4 b5 xr nr n239 x22 x21 no; lia)), if_pos (by omega)]
    · rw [if_neg e, if_pos (by omega)]
  have nq : shQ N r 239 (sR r) = M 21 r - 1 := by rw [n239]; unfold shF su_; rw [if_pos rfl, b3]
  refine ⟨RI_l r1 ⟨by rw [xr 0 (by decide) (by decide)], by rw [xr 0 (by decide) (by decide)]⟩ (fun q hq => xr q (fun e => by rw [e] at hq; revert hq; decide) (fun e => by rw [e] at hq; revert hq; decide)) (fun i hi => no i (by omega)) (by rw [nr 6 (by decide) (by decide)]) (fun q hq => nr q (fun e => by rw [e] at hq; revert hq; decide) (fun e => by rw [e] at hq; revert hq; decide)), RRt_r r2 hr (fun i hi => by rw [x21, if_neg hi]) (fun i hi => by rw [x22]; unfold cpf; rw [if_neg (by (clear hr r1 r2 r3 r4 r5 hR b1 b4 b5 xr nr n239 x22 x21 no ni; lia))]) no (by rw [nr 6 (by decide) (by decide)]) ?_, RSC_c r3 (fun i _ => by rw [xr 0 (by decide) (by decide)]) (fun i _ => by rw [nr 6 (by decide) (by decide)]), ROU_c r4 (fun i _ => by rw [xr 0 (by decide) (by decide)]) (xr 24 (by decide) (by decide)) (fun i _ => by rw [nr 6 (by decide) (by decide)]) (nr 241 (by decide) (by decide)), REV_c r5 (fun i _ => by rw [xr 0 (by decide) (by decide)]) (xr 23 (by decide) (by decide)) (fun i _ => by rw [nr 6 (by decide) (by decide)]) (nr 240 (by decide) (by decide))⟩
  have e21 : shX M r 21 r = M 21 r - 1 := by rw [x21, if_pos rfl]
  unfold RO
  rw [e21, nq, x22]
  refine ⟨by (clear hr r1 r2 r3 r4 r5 hR b1 b4 b5 xr nr n239 x22 x21 no ni; lia), fun q q0 q1 => ?_, fun i i0 i1 => ?_⟩
  · obtain ⟨c1, c2, c3, c4⟩ := b4 (q + 1) (by (clear hr h1 r1 r2 r3 r4 r5 hR b1 b2 b3 b4 b5 xr nr n239 x22 x21 no ni nq e21 q1; lia)) (by omega)
    have cx : ∀ j, 0 ≤ j → j < 7 → cpf (M 22) (42 * r) (42 * r + 7 * (M 21 r - 1)) 7 (42 * r + 7 * q + j) = M 22 (42 * r + 7 * (q + 1) + j) := fun j j0 j1 => by
      unfold cpf; rw [if_pos (by (clear hr r1 r2 r3 r4 r5 hR b1 b4 b5 xr nr n239 x22 x21 no ni c1 c2 c3 c4; lia))]; congr 1; (clear hr h1 r1 r2 r3 r4 r5 hR b1 b2 b3 b4 b5 xr nr n239 x22 x21 no ni nq e21 q0 q1 c1 c2 c3 c4 j0 j1; lia)
    have cq : ∀ j, 0 ≤ j → j < 7 → shQ N r 239 (sR r + 1 + 7 * q + j) = N 239 (sR r + 1 + 7 * (q + 1) + j) := fun j j0 j1 => by
      have := ni (7 * q + j) (by (clear hr r1 r2 r3 r4 r5 hR b1 b4 b5 xr nr n239 x22 x21 no ni c1 c2 c3 c4 cx; lia)) (by (clear hr r1 r2 r3 r4 r5 hR b1 b4 b5 xr nr n239 x22 x21 no ni c1 c2 c3 c4 cx; lia))
      rw [if_pos (by omega)] at this
      rw [show sR r + 1 + 7 * q + j = sR r + 1 + (7 * q + j) by (clear hr h1 r1 r2 r3 r4 r5 hR b1 b2 b3 b4 b5 xr nr n239 x22 x21 no ni nq e21 q0 q1 c1 c2 c3 c4 cx j0 j1 this; lia), this]; congr 1; (clear hr h1 r1 r2 r3 r4 r5 hR b1 b2 b3 b4 b5 xr nr n239 x22 x21 no ni nq e21 q0 q1 c1 c2 c3 c4 cx j0 j1 this; lia)
    refine ⟨fun j j0 j1 j2 => by rw [cx j j0 j1, cq j j0 j1]; exact c1 j j0 j1 j2, by rw [cx 3 (by decide) (by decide)]; exact c2, fun hz => by rw [cx 3 (by decide) (by decide), cq 3 (by decide) (by decide)]; exact c3 hz, fun hz => by rw [cq 3 (by decide) (by decide)]; exact c4 hz⟩
  · rw [ni i (by (clear hr r1 r2 r3 r4 r5 hR b1 b4 b5 xr nr n239 x22 x21 no ni i1; lia)) i1]
    by_cases e : i < 35
    · rw [if_pos e]
      have := b5 (i + 7) (by (clear hr h1 r1 r2 r3 r4 r5 hR b1 b2 b4 b5 xr nr n239 x22 x21 no ni i1 e; lia)) (by omega)
      rw [← Int.add_assoc] at this; exact this
    · rw [if_neg e]
def lX (M : mm_) (r : Int) : mm_ := aX (shX M r) (M 22 (42 * r)) (M 22 (42 * r + 1)) (M 22 (42 * r + 2)) (M 22 (42 * r + 4)) (M 22 (42 * r + 5)) (M 22 (42 * r + 6))
def lQ (N : mm_) (r : Int) : mm_ := aQ (shQ N r) (N 239 (sR r + 1)) (N 239 (sR r + 2)) (N 239 (sR r + 3))
theorem RU_l [Inhabited fz_] (h : RU z M N) (hr : 0 ≤ r ∧ r < N 6 18) (h1 : 0 < M 21 r) : RU z (lX M r) (lQ N r) := by
  obtain ⟨⟨b1, b2, b3⟩, b4, b5⟩ := h.2.1.2.1 r hr.1 hr.2
  obtain ⟨c1, _⟩ := b4 0 (by decide) h1
  have e : ∀ j, 0 ≤ j → j < 7 → j ≠ 3 → M 22 (42 * r + j) = N 239 (sR r + 1 + j) := fun j j0 j1 j2 => by
    have := c1 j j0 j1 j2
    rw [show 42 * r + 7 * 0 + j = 42 * r + j by (clear h hr h1 b1 b2 b3 b4 b5 c1 j0 j1 j2 this; lia), show sR r + 1 + 7 * 0 + j = sR r + 1 + j by omega] at this; exact this
  have e0 := e 0 (by decide) (by decide) (by decide)
  rw [Int.add_zero, Int.add_zero] at e0
  unfold lX lQ
  rw [e0, e 1 (by decide) (by decide) (by decide), e 2 (by decide) (by decide) (by decide)]
  rw [show sR r + 1 + 1 = sR r + 2 by omega, show sR r + 1 + 2 = sR r + 3 by omega]
  refine RU_a (RU_sh h hr h1) ?_
  obtain ⟨g1, g2, g3⟩ := shQ_2 (N := N) (r := r)
  rw [g1, g2, g3, e 4 (by decide) (by decide) (by decide), e 5 (by decide) (by decide) (by decide), e 6 (by decide) (by decide) (by decide)]
  refine ⟨?_, ?_, ?_⟩ <;> (congr 1; (clear h hr h1 b1 b2 b3 b4 b5 c1 e e0 g1 g2 g3; omega))
theorem x_2 [Inhabited fz_] (hk : 0 ≤ r ∧ r < 10) (ha : 0 ≤ a ∧ a ≤ 6) : Ex_ 1 2 [.inl r, .inl a] M [.inl (42 * r + 7 * a)] M := fun Qr Qt hq => t_2 fun V hV hW => b_2_0 (Tr_mono _) hV hW _ _ _ (by
  rw [w32_id (x := 6 * r) (by omega) (by (clear ha hq hV hW; lia)), w32_id (x := 6 * r + a) (by omega) (by omega), w32_id (x := 7 * (6 * r + a)) (by lia) (by omega), show 7 * (6 * r + a) = 42 * r + 7 * a by (clear hk ha hq hV hW; lia)]; exact hq)
theorem x_3 [Inhabited fz_] (h : RU z M N) (hr : 0 ≤ r ∧ r < N 6 18) (h1 : 0 < M 21 r) : Ex_ 5 3 [.inr (.inr 0), .inl r] M [] (lX M r) := fun Qr Qt hq => t_3 fun V hV hW => b_3_0 (Tr_mono _) hV hW _ _ (by
  have hb := (h.2.1.2.1 r hr.1 hr.2).1
  have h10 := h.2.1.1
  refine Ex_le (d := 1) (by decide) (x_2 (a := 0) (by (clear h h1 hq hV hW hb; omega)) (by decide)) _ _ (ri_i ?_)
  rw [show 42 * r + 7 * 0 = 42 * r by (clear h hr h1 hq hV hW hb h10; lia), w32_id (x := 42 * r + 1) (by (clear h h1 hq hV hW hb h10; lia)) (by omega), w32_id (x := 42 * r + 2) (by omega) (by omega), w32_id (x := 42 * r + 4) (by omega) (by omega), w32_id (x := 42 * r + 5) (by omega) (by omega), w32_id (x := 42 * r + 6) (by omega) (by (clear h h1 hq hV hW hb; omega)), w32_id (x := M 21 r - 1) (by omega) (by omega)]
  refine ⟨by omega, by omega, by omega, by omega, by omega, by omega, by omega, by omega, ?_⟩
  have e22 : up_ M 21 r (M 21 r - 1) 22 = M 22 := up_ne (by decide)
  have l : ∀ (j : Nat) (x : Int), x + j = 42 * r + 7 * (M 21 r - 1) → 42 * r ≤ x → V 77 [rr 0, ii r, ii (42 * r), ii (M 22 (42 * r)), ii (M 22 (42 * r + 1)), ii (M 22 (42 * r + 2)), ii (M 22 (42 * r + 4)), ii (M 22 (42 * r + 5)), ii (M 22 (42 * r + 6)), ii x] [] (wr_ (up_ M 21 r (M 21 r - 1)) 22 (cpf (M 22) (42 * r) x 7)) := fun j => by
    induction j with
    | zero =>
      intro x hx h0
      refine b_3_77 (Tr_mono _) hV hW _ _ _ _ _ _ _ _ _ _ ⟨by omega, ?_⟩
      rw [wr_ne (by decide), up_at, w32_id (x := 7 * (M 21 r - 1)) (by omega) (by omega), w32_id (x := 42 * r + 7 * (M 21 r - 1)) (by omega) (by omega), if_neg (by omega)]
      have ex : x = 42 * r + 7 * (M 21 r - 1) := by (clear h hr h1 hq hV hW h10 e22 h0; lia)
      rw [ex]
      exact x_4 (RU_sh h hr h1) _ _ (rv_i hq)
    | succ j ih =>
      intro x hx h0
      refine b_3_77 (Tr_mono _) hV hW _ _ _ _ _ _ _ _ _ _ ⟨by omega, ?_⟩
      rw [wr_ne (by decide), up_at, w32_id (x := 7 * (M 21 r - 1)) (by (clear h hr hq hV hW h10 e22 ih hx h0; lia)) (by omega), w32_id (x := 42 * r + 7 * (M 21 r - 1)) (by omega) (by omega), if_pos (by omega), w32_id (x := x + 7) (by omega) (by omega), w32_id (x := x + 1) (by omega) (by omega)]
      refine ⟨by omega, by omega, ?_⟩
      rw [wr_same, cpf_s h0 (by decide)]
      exact ih (x + 1) (by (clear h hr h1 hq hV hW h10 e22 ih h0; lia)) (by (clear h hr h1 hq hV hW h10 e22 ih; lia))
  have := l (7 * (M 21 r - 1)).toNat (42 * r) (by (clear h hr hq hV hW h10 e22 l; lia)) (by omega)
  rw [cpf_0, ← e22, wr_id, e22] at this
  exact this)
theorem q_328 [Inhabited fz_] (h : RU z M N) (hr : 0 ≤ r ∧ r < N 6 18) (h1 : 0 < M 21 r) : Ex_ 4 328 [.inr (.inr 6), .inl r] N [] (lQ N r) := fun Qr Qt hq => t_328 fun V hV hW => b_328_0 (Tr_mono _) hV hW _ _ (by
  have hb := (h.2.1.2.1 r hr.1 hr.2).1
  have h10 := h.2.1.1
  have hR : sR r = 674 + 43 * r := rfl
  refine Ex_le (d := 1) (by decide) (q_327 (by omega)) _ _ (ri_i ?_)
  rw [w32_id (x := sR r + 1) (by (clear h h1 hq hV hW hb h10; lia)) (by omega), w32_id (x := sR r + 2) (by omega) (by (clear h h1 hq hV hW hb; lia)), w32_id (x := sR r + 3) (by omega) (by (clear h h1 hq hV hW hb; lia))]
  refine ⟨by omega, by omega, by omega, ?_⟩
  -- the values
  refine b_328_37 (Tr_mono _) hV hW _ _ _ _ _ _ _ ?_
  rw [if_pos (by decide), w32_id (x := sR r + 5) (by omega) (by omega), w32_id (x := sR r + 5 + 0) (by omega) (by omega), w32_id (x := (0 : Int) + 1) (by decide) (by decide)]
  refine ⟨by omega, by decide, ?_⟩
  refine b_328_37 (Tr_mono _) hV hW _ _ _ _ _ _ _ ?_
  rw [if_pos (by decide), w32_id (x := sR r + 5) (by omega) (by omega), w32_id (x := sR r + 5 + (0 + 1)) (by omega) (by omega), w32_id (x := (0 : Int) + 1 + 1) (by decide) (by decide)]
  refine ⟨by (clear h h1 hq hV hW hb; omega), by decide, ?_⟩
  refine b_328_37 (Tr_mono _) hV hW _ _ _ _ _ _ _ ?_
  rw [if_pos (by decide), w32_id (x := sR r + 5) (by omega) (by omega), w32_id (x := sR r + 5 + (0 + 1 + 1)) (by omega) (by (clear h h1 hq hV hW hb; omega)), w32_id (x := (0 : Int) + 1 + 1 + 1) (by decide) (by decide)]
  refine ⟨by omega, by decide, ?_⟩
  refine b_328_37 (Tr_mono _) hV hW _ _ _ _ _ _ _ ?_
  rw [if_neg (by decide), w32_id (x := sR r + 1) (by omega) (by omega), up_ne (r' := 239) (by decide), up_ne (r' := 239) (by decide), up_ne (r' := 239) (by decide), show sR r + 5 + 0 = sR r + 5 by omega, show sR r + 5 + (0 + 1) = sR r + 6 by omega, show sR r + 5 + (0 + 1 + 1) = sR r + 7 by omega]
  show V 72 [rr 6, ii r, ii (sR r), ii (N 239 (sR r + 1)), ii (N 239 (sR r + 2)), ii (N 239 (sR r + 3)), ii (sR r + 1)] [] (up_ (up_ (up_ N 242 0 (N 239 (sR r + 5))) 242 1 (N 239 (sR r + 6))) 242 2 (N 239 (sR r + 7)))
  generalize eA : up_ (up_ (up_ N 242 0 (N 239 (sR r + 5))) 242 1 (N 239 (sR r + 6))) 242 2 (N 239 (sR r + 7)) = A
  have e239 : A 239 = N 239 := by rw [← eA, up_ne (by decide), up_ne (by decide), up_ne (by decide)]
  have l2 : ∀ (j : Nat) (x : Int), x + j = sR r + 43 → sR r + 36 ≤ x → V 114 [rr 6, ii r, ii (sR r), ii (N 239 (sR r + 1)), ii (N 239 (sR r + 2)), ii (N 239 (sR r + 3)), ii x] [] (wr_ A 239 (flf (cpf (N 239) (sR r + 1) (sR r + 36) 7) (sR r + 36) x 0)) := fun j => by
    induction j with
    | zero =>
      intro x hx h0
      refine b_328_114 (Tr_mono _) hV hW _ _ _ _ _ _ _ ?_
      rw [w32_id (x := sR r + 43) (by omega) (by omega), if_neg (by omega)]
      refine ⟨by (clear h h1 hq hV hW hb eA e239 hx h0; omega), by omega, ?_⟩
      have ex : x = sR r + 43 := by (clear h hr h1 hq hV hW hb h10 eA e239 h0; lia)
      have eq : flf (cpf (N 239) (sR r + 1) (sR r + 36) 7) (sR r + 36) (sR r + 43) 0 (sR r) = N 239 (sR r) := by unfold flf cpf; rw [if_neg (by (clear h hr h1 hq hV hW hb h10 hR eA e239 hx h0 ex; lia)), if_neg (by (clear h hr h1 hq hV hW hb h10 hR eA e239 hx h0 ex; lia))]
      rw [ex, wr_same, eq, w32_id (x := N 239 (sR r) - 1) (by (clear h hr hq hV hW h10 hR eA e239 hx h0 ex; lia)) (by omega), up_wr]
      unfold lQ shQ shF at hq
      rw [eA] at hq
      refine q_329 (M := shX M r) (N := wr_ A 239 (su_ (flf (cpf (N 239) (sR r + 1) (sR r + 36) 7) (sR r + 36) (sR r + 43) 0) (sR r) (N 239 (sR r) - 1))) (z := z) ?_ _ _ (rv_i hq)
      have := RU_sh h hr h1
      unfold shQ shF at this
      rw [eA] at this; exact this
    | succ j ih =>
      intro x hx h0
      refine b_328_114 (Tr_mono _) hV hW _ _ _ _ _ _ _ ?_
      rw [w32_id (x := sR r + 43) (by omega) (by (clear h h1 hq hV hW hb eA e239 ih hx h0; lia)), if_pos (by omega), w32_id (x := x + 1) (by omega) (by omega), flf_s h0]
      exact ⟨by omega, ih (x + 1) (by (clear h hr h1 hq hV hW hb h10 eA e239 ih h0; lia)) (by omega)⟩
  have l1 : ∀ (j : Nat) (x : Int), x + j = sR r + 36 → sR r + 1 ≤ x → V 72 [rr 6, ii r, ii (sR r), ii (N 239 (sR r + 1)), ii (N 239 (sR r + 2)), ii (N 239 (sR r + 3)), ii x] [] (wr_ A 239 (cpf (N 239) (sR r + 1) x 7)) := fun j => by
    induction j with
    | zero =>
      intro x hx h0
      refine b_328_72 (Tr_mono _) hV hW _ _ _ _ _ _ _ ?_
      rw [w32_id (x := sR r + 1) (by (clear h h1 hq hV hW hb h10 eA e239 l2 hx h0; omega)) (by omega), w32_id (x := sR r + 1 + 35) (by omega) (by omega), if_neg (by (clear h hr h1 hq hV hW hb h10 eA e239 l2 h0; lia))]
      have ex : x = sR r + 36 := by (clear h hr h1 hq hV hW hb h10 eA e239 l2 h0; lia)
      have := l2 7 (sR r + 36) (by (clear h hr h1 hq hV hW hb h10 hR eA e239 l2 hx h0 ex; omega)) (by (clear h hr h1 hq hV hW hb h10 hR eA e239 l2 hx h0 ex; lia))
      rw [flf_0] at this
      rw [ex, show sR r + 1 + 35 = sR r + 36 by omega]; exact this
    | succ j ih =>
      intro x hx h0
      refine b_328_72 (Tr_mono _) hV hW _ _ _ _ _ _ _ ?_
      rw [w32_id (x := sR r + 1) (by omega) (by omega), w32_id (x := sR r + 1 + 35) (by omega) (by (clear h h1 hq hV hW hb eA e239 l2 ih hx h0; lia)), if_pos (by omega), w32_id (x := x + 7) (by omega) (by (clear h h1 hq hV hW hb eA e239 l2 ih; lia)), w32_id (x := x + 1) (by omega) (by (clear h h1 hq hV hW hb eA e239 l2 ih; lia)), wr_same, cpf_s h0 (by decide)]
      exact ⟨by omega, by (clear h h1 hq hV hW hb eA e239 l2 ih; lia), ih (x + 1) (by (clear h hr h1 hq hV hW hb h10 eA e239 l2 ih h0; lia)) (by (clear h hr h1 hq hV hW hb h10 eA e239 l2 ih; omega))⟩
  have := l1 35 (sR r + 1) (by omega) (by omega)
  rw [cpf_0, ← e239, wr_id, e239] at this
  exact this)
end LAa
end T335_la
