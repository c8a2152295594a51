/-! MANY STEPS AT ONCE -/
def Mo_ (D : ca_) : Prop := ∀ (a : Nat) (as : List pv_) (M : mm_) (Qr Qr' : qr_) (Qt Qt' : qt_), (∀ vs M, Qr vs M → Qr' vs M) → (∀ r M, Qt r M → Qt' r M) → D a as M Qr Qt → D a as M Qr' Qt'
section MO
variable {w : wd_} {D : ca_} {V1 V2 : vv_} {Qr Qr' : qr_} {Qt Qt' : qt_}
theorem sw_mono {K1 K2 : Nat → Prop} (hK : ∀ q, K1 q → K2 q) {x : Int} : ∀ {tb : List (Int × Nat)} {d : Nat}, sw_ K1 x tb d → sw_ K2 x tb d
  | [], d, h => hK _ h
  | k :: t, d, h => by
    unfold sw_ at h ⊢
    split at h
    · rename_i e9; rw [if_pos e9]; exact hK _ h
    · rename_i e9; rw [if_neg e9]; exact sw_mono hK h
theorem th_mono (hV : ∀ pc ls st M, V1 pc ls st M → V2 pc ls st M) (ht : ∀ r M, Qt r M → Qt' r M) {hs : List (Nat × Nat × Nat)} {pc : Nat} {ls : lo_} {r : Nat} {M : mm_} (h : th_ V1 Qt hs pc ls r M) : th_ V2 Qt' hs pc ls r M := by
  unfold th_ at h ⊢
  split at h
  · exact ⟨h.1, hV _ _ _ _ h.2⟩
  · exact ht _ _ h
theorem rk_mono (hV : ∀ pc ls st M, V1 pc ls st M → V2 pc ls st M) {k pc : Nat} {ls : lo_} {st : List pv_} {vs : List pv_} {M : mm_} (h : rk_ V1 k pc ls st vs M) : rk_ V2 k pc ls st vs M := by
  unfold rk_ at h ⊢
  split at h
  · exact ⟨h.1, hV _ _ _ _ h.2⟩
  · obtain ⟨x, h1, h2⟩ := h; exact ⟨x, h1, hV _ _ _ _ h2⟩
  · obtain ⟨x, h1, h2⟩ := h; exact ⟨x, h1, hV _ _ _ _ h2⟩
  · obtain ⟨x, h1, h2⟩ := h; exact ⟨x, h1, hV _ _ _ _ h2⟩
theorem cl_mono (hD : Mo_ D) (hV : ∀ pc ls st M, V1 pc ls st M → V2 pc ls st M) (ht : ∀ r M, Qt r M → Qt' r M) {hs : List (Nat × Nat × Nat)} {pc a n k : Nat} {ls : lo_} {st : List pv_} {M : mm_} (h : cl_ D V1 Qt hs pc a n k ls st M) : cl_ D V2 Qt' hs pc a n k ls st M := by
  unfold cl_ at h ⊢
  split at h
  · rename_i e9
    rw [if_pos e9]
    exact hD _ _ _ _ _ _ _ (fun vs M h => rk_mono hV h) (fun r M h => th_mono hV ht h) h
  · exact h.elim
set_option maxHeartbeats 4000000 in
theorem ex_mono (hD : Mo_ D) (hV : ∀ pc ls st M, V1 pc ls st M → V2 pc ls st M) (hr : ∀ vs M, Qr vs M → Qr' vs M) (ht : ∀ r M, Qt r M → Qt' r M) {m : md_} {pc len a : Nat} {i : Instr} {b : Int} {tb : List (Int × Nat)} {ls : lo_} {st : List pv_} {M : mm_} (h : ex_ w D V1 Qr Qt m pc i len a b tb ls st M) : ex_ w D V2 Qr' Qt' m pc i len a b tb ls st M := by
  revert h
  cases i <;> simp only [ex_]
  all_goals first
    | exact hV _ _ _ _
    | exact fun h => h.elim
    | exact fun h => cl_mono hD hV ht h
    | skip
  all_goals (repeat' split)
  all_goals first
    | exact fun h => h.elim
    | exact hV _ _ _ _
    | exact fun h => ⟨h.1, hV _ _ _ _ h.2⟩
    | exact fun h q => hV _ _ _ _ (h q)
    | exact fun h => ⟨h.1, fun q => hV _ _ _ _ (h.2 q)⟩
    | exact hr _ _
    | exact fun h => ⟨h.1, hr _ _ h.2⟩
    | exact fun h => th_mono hV ht h
    | exact fun h => sw_mono (fun q h => hV _ _ _ _ h) h
    | exact fun h => cl_mono hD hV ht h
    | skip
end MO
section BX
variable {w : wd_} {D : ca_} {V : vv_} {Qr Qr' : qr_} {Qt Qt' : qt_}
theorem st_mono {V1 V2 : vv_} (hD : Mo_ D) (hV : ∀ pc ls st M, V1 pc ls st M → V2 pc ls st M) (hr : ∀ vs M, Qr vs M → Qr' vs M) (ht : ∀ r M, Qt r M → Qt' r M) {m : md_} {pc : Nat} {ls : lo_} {st : List pv_} {M : mm_} (h : st_ w D V1 Qr Qt m pc ls st M) : st_ w D V2 Qr' Qt' m pc ls st M := by
  unfold st_ at h ⊢
  split at h
  · exact ex_mono hD hV hr ht h
  · exact h.elim
theorem mk_le : ∀ (dd : List Nat) (ls : lo_), lle_ (mk_ ls dd) ls
  | [], ls => ⟨rfl, fun _ _ h => h⟩
  | k :: t, ls => by
    obtain ⟨h1, h2⟩ := mk_le t (ls.set k none)
    refine ⟨h1.trans (List.length_set ..), fun j v hj => ?_⟩
    have h3 := h2 j v hj
    rw [List.getElem?_set] at h3
    split at h3
    · split at h3 <;> cases h3
    · exact h3
theorem bx_go (hD : Mo_ D) {m : md_} (hV : Cl_ w D V Qr Qt m) (hW : Wk_ V) (cuts : List (Nat × List Nat)) : ∀ (n : Nat) {pc : Nat} {ls : lo_} {st : List pv_} {M : mm_}, bx_ w D V Qr Qt m cuts n pc ls st M → V pc ls st M
  | 0, _, _, _, _, h => h
  | n + 1, pc, ls, st, M, h => by
    refine hV pc ls st M (st_mono hD (fun pc' ls' st' M' h' => ?_) (fun _ _ q => q) (fun _ _ q => q) h)
    split at h'
    · exact hW _ _ _ _ _ (mk_le _ _) h'
    · exact bx_go hD hV hW cuts n h'
theorem Tr_mono {P : pg_} : ∀ d, Mo_ (Tr_ w P d)
  | 0 => fun _ _ _ _ _ _ _ _ _ h => h.elim
  | d + 1 => fun a as M Qr Qr' Qt Qt' hr ht h => by
    refine ⟨h.1, fun V hV hW => h.2 V (fun pc ls st M hs => hV pc ls st M (st_mono (Tr_mono d) (fun _ _ _ _ q => q) hr ht hs)) hW⟩
theorem ex_monoD {D D' : ca_} {V : vv_} (hDD : ∀ a as M Qr Qt, D a as M Qr Qt → D' a as M Qr Qt) {m : md_} {pc len a : Nat} {i : Instr} {b : Int} {tb : List (Int × Nat)} {ls : lo_} {st : List pv_} {M : mm_} (h : ex_ w D V Qr Qt m pc i len a b tb ls st M) : ex_ w D' V Qr Qt m pc i len a b tb ls st M := by
  have hc : ∀ {hs : List (Nat × Nat × Nat)} {pc a n k : Nat}, cl_ D V Qt hs pc a n k ls st M → cl_ D' V Qt hs pc a n k ls st M := by
    intro hs pc a n k h
    unfold cl_ at h ⊢
    split at h
    · rename_i e9; rw [if_pos e9]; exact hDD _ _ _ _ _ h
    · exact h.elim
  cases i with
  | invokevirtual idx =>
    simp only [ex_] at h ⊢
    split at h
    · split at h
      · rename_i e9; rw [if_pos e9]; exact hc h
      · exact h.elim
    · exact h.elim
  | invokestatic idx =>
    simp only [ex_] at h ⊢
    by_cases h1 : a = 9001
    · rw [if_pos h1] at h ⊢; exact h
    · rw [if_neg h1] at h ⊢
      by_cases h2 : a = 9002
      · rw [if_pos h2] at h ⊢; exact h
      · rw [if_neg h2] at h ⊢
        by_cases h3 : a = 9003
        · rw [if_pos h3] at h ⊢; exact h
        · rw [if_neg h3] at h ⊢; exact hc h
  | _ => exact h
theorem Tr_up {P : pg_} : ∀ d a as M Qr Qt, Tr_ w P d a as M Qr Qt → Tr_ w P (d + 1) a as M Qr Qt
  | 0, _, _, _, _, _, h => h.elim
  | d + 1, a, as, M, Qr, Qt, h => by
    refine ⟨h.1, fun V hV hW => h.2 V (fun pc ls st M hs => hV pc ls st M ?_) hW⟩
    unfold st_ at hs ⊢
    split at hs
    · exact ex_monoD (Tr_up d) hs
    · exact hs.elim
theorem Tr_le {P : pg_} {d d' : Nat} (h : d ≤ d') {a : Nat} {as : List pv_} {M : mm_} (ht : Tr_ w P d a as M Qr Qt) : Tr_ w P d' a as M Qr Qt := by
  induction h with
  | refl => exact ht
  | step _ ih => exact Tr_up _ _ _ _ _ _ ih
end BX
abbrev ii (x : Int) : Option pv_ := some (.inl x)
abbrev jj (x : Int) : Option pv_ := some (.inr (.inl x))
abbrev rr (r : Nat) : Option pv_ := some (.inr (.inr r))
def ri_ (K : Int → mm_ → Prop) : qr_ := fun vs M => ∃ x, vs = [.inl x] ∧ K x M
def rl_ (K : Int → mm_ → Prop) : qr_ := fun vs M => ∃ x, vs = [.inr (.inl x)] ∧ K x M
def rf_r (K : Nat → mm_ → Prop) : qr_ := fun vs M => ∃ x, vs = [.inr (.inr x)] ∧ K x M
def rv_ (K : mm_ → Prop) : qr_ := fun vs M => vs = [] ∧ K M
/-- places in order -/
def inq_ (p : Nat) : List en_ → Bool
  | [] => true
  | e :: t => Nat.ble p e.1 && inq_ (e.1 + 1) t
theorem inq_lk : ∀ (l : List en_) (p pc : Nat) (x : Instr × Nat × Nat × Int × List (Int × Nat)), inq_ p l = true → lk_ l pc = some x → p ≤ pc
  | [], _, _, _, _, h => by cases h
  | e :: t, p, pc, x, hi, h => by
    unfold inq_ at hi
    rw [Bool.and_eq_true] at hi
    have h1 := Nat.le_of_ble_eq_true hi.1
    unfold lk_ at h
    split at h
    · omega
    · have := inq_lk t _ _ _ hi.2 h; omega
theorem lk_dr : ∀ (j : Nat) (l : List en_) (p pc : Nat) (x : Instr × Nat × Nat × Int × List (Int × Nat)), inq_ p l = true → lk_ (l.drop j) pc = some x → lk_ l pc = some x
  | 0, _, _, _, _, _, h => h
  | _ + 1, [], _, _, _, _, h => h
  | j + 1, e :: t, p, pc, x, hi, h => by
    unfold inq_ at hi
    rw [Bool.and_eq_true] at hi
    have r := lk_dr j t _ _ _ hi.2 h
    have := inq_lk t _ _ _ hi.2 r
    unfold lk_
    rw [if_neg (by omega)]
    exact r
theorem inq_le : ∀ (l : List en_) (p q : Nat), q ≤ p → inq_ p l = true → inq_ q l = true
  | [], _, _, _, _ => rfl
  | e :: t, p, q, hq, h => by
    unfold inq_ at h ⊢
    rw [Bool.and_eq_true] at h ⊢
    exact ⟨Nat.ble_eq_true_of_le (Nat.le_trans hq (Nat.le_of_ble_eq_true h.1)), h.2⟩
theorem inq_dr : ∀ (j : Nat) (l : List en_) (p : Nat), inq_ p l = true → inq_ 0 (l.drop j) = true
  | 0, l, p, h => inq_le l p 0 (Nat.zero_le _) h
  | _ + 1, [], _, _ => rfl
  | j + 1, e :: t, p, h => by
    unfold inq_ at h
    rw [Bool.and_eq_true] at h
    exact inq_dr j t _ h.2
/-- a tail of a code list -/
def Sf_ (k g : List en_) : Prop := inq_ 0 g = true ∧ ∀ (pc : Nat) (x : Instr × Nat × Nat × Int × List (Int × Nat)), lk_ g pc = some x → lk_ k pc = some x
theorem Sf_of {k g : List en_} (hi : inq_ 0 k = true) (j : Nat) (h : k.drop j = g) : Sf_ k g := by
  subst h
  exact ⟨inq_dr j k 0 hi, fun pc x h => lk_dr j k 0 pc x hi h⟩
theorem Sf_tr {k g g' : List en_} (h1 : Sf_ k g) (j : Nat) (h : g.drop j = g') : Sf_ k g' := by
  have r := Sf_of h1.1 j h
  exact ⟨r.1, fun pc x q => h1.2 pc x (r.2 pc x q)⟩
theorem Cl_sf {w : wd_} {D : ca_} {V : vv_} {Qr : qr_} {Qt : qt_} {m : md_} {g : List en_} (hs : Sf_ m.1 g) (hV : Cl_ w D V Qr Qt m) : Cl_ w D V Qr Qt (g, m.2) := fun pc ls st M h => hV pc ls st M (by
  unfold st_ at h ⊢
  split at h
  · rename_i e he
    rw [hs.2 pc e he]
    exact h
  · exact h.elim)
