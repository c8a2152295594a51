/-! THE WORLD of a memory: which cells the machine holds -/
def fv_ (w : wd_) (ad : Nat → Nat) (M : mm_) (r k : Nat) : Value := match w.2.1 (w.1 r) k with
  | 2 => .ref (ad (w.2.2.1 r k))
  | 3 => if M r k = 0 then .null else .ref (ad (M r k).toNat)
  | _ => .int (Int32.ofInt (M r k))
def ce_ (w : wd_) (nf : Nat → Nat) (cA : Nat → ClassId) (ad : Nat → Nat) (M : mm_) (r : Nat) : va_E :=
  if w.1 r = 99 then .inl (cA (w.2.2.2.1 r), w.2.2.2.2 r, if w.2.2.2.1 r = 4 then .inr (.inl (fun j : Nat => Int64.ofInt (M r j))) else .inl (fun j : Nat => Int32.ofInt (M r j)))
  else .inr (w.1 r, (List.range (nf (w.1 r))).map (fv_ w ad M r))
def wl_ (w : wd_) (nf : Nat → Nat) (cA : Nat → ClassId) (N : Nat) (ad : Nat → Nat) (M : mm_) : va_W := (List.range N).map (fun r => (ad r, ce_ w nf cA ad M r))
/-- what a field of a kind may hold -/
def rf_ (k : Nat) (x : Int) : Prop := match k with
  | 1 => bl_ x
  | 2 => True
  | 3 => 0 ≤ x
  | _ => inI x
/-- what an array of a kind may hold -/
def ra_ (k : Nat) (x : Int) : Prop := match k with
  | 2 => -128 ≤ x ∧ x ≤ 127
  | 3 => bl_ x
  | 4 => inL x
  | _ => inI x
def Rg_ (w : wd_) (nf : Nat → Nat) (N : Nat) (M : mm_) : Prop := ∀ r, r < N → (w.1 r ≠ 99 → ∀ k : Nat, k < nf (w.1 r) → rf_ (w.2.1 (w.1 r) k) (M r k)) ∧ (w.1 r = 99 → ∀ j : Nat, j < w.2.2.2.2 r → ra_ (w.2.2.2.1 r) (M r j))
theorem wl_at {w : wd_} {nf : Nat → Nat} {cA : Nat → ClassId} {N : Nat} {ad : Nat → Nat} {M : mm_} {r : Nat} (h : r < N) : (wl_ w nf cA N ad M)[r]? = some (ad r, ce_ w nf cA ad M r) := by
  unfold wl_
  rw [List.getElem?_map, List.getElem?_range h]
  rfl
theorem ce_arr {w : wd_} {nf : Nat → Nat} {cA : Nat → ClassId} {ad : Nat → Nat} {M : mm_} {r : Nat} (h : w.1 r = 99) (h4 : w.2.2.2.1 r ≠ 4) : ce_ w nf cA ad M r = .inl (cA (w.2.2.2.1 r), w.2.2.2.2 r, .inl (fun j : Nat => Int32.ofInt (M r j))) := by
  unfold ce_
  rw [if_pos h, if_neg h4]
theorem ce_arl {w : wd_} {nf : Nat → Nat} {cA : Nat → ClassId} {ad : Nat → Nat} {M : mm_} {r : Nat} (h : w.1 r = 99) (h4 : w.2.2.2.1 r = 4) : ce_ w nf cA ad M r = .inl (cA (w.2.2.2.1 r), w.2.2.2.2 r, .inr (.inl (fun j : Nat => Int64.ofInt (M r j)))) := by
  unfold ce_
  rw [if_pos h, if_pos h4]
theorem ce_obj {w : wd_} {nf : Nat → Nat} {cA : Nat → ClassId} {ad : Nat → Nat} {M : mm_} {r : Nat} (h : w.1 r ≠ 99) : ce_ w nf cA ad M r = .inr (w.1 r, (List.range (nf (w.1 r))).map (fv_ w ad M r)) := by
  unfold ce_
  rw [if_neg h]
theorem up_ne {M : mm_} {r r' : Nat} {i v : Int} (h : r' ≠ r) : up_ M r i v r' = M r' := by
  unfold up_
  rw [if_neg h]
theorem up_eq {M : mm_} {r : Nat} {i v : Int} : up_ M r i v r = fun j => if j = i then v else M r j := by
  unfold up_
  rw [if_pos rfl]
theorem up_at {M : mm_} {r : Nat} {i v : Int} : up_ M r i v r i = v := by
  rw [up_eq]
  exact if_pos rfl
theorem up_off {M : mm_} {r : Nat} {i v j : Int} (h : j ≠ i) : up_ M r i v r j = M r j := by
  rw [up_eq]
  exact if_neg h
theorem ce_ne {w : wd_} {nf : Nat → Nat} {cA : Nat → ClassId} {ad : Nat → Nat} {M : mm_} {r r' : Nat} {i v : Int} (h : r' ≠ r) : ce_ w nf cA ad (up_ M r i v) r' = ce_ w nf cA ad M r' := by
  unfold ce_ fv_
  rw [up_ne h]
theorem wl_set {w : wd_} {nf : Nat → Nat} {cA : Nat → ClassId} {N : Nat} {ad : Nat → Nat} {M : mm_} {r : Nat} {i v : Int} {x : va_E} (hx : ce_ w nf cA ad (up_ M r i v) r = x) : (wl_ w nf cA N ad M).set r (ad r, x) = wl_ w nf cA N ad (up_ M r i v) := by
  apply List.ext_getElem?
  intro k
  rw [List.getElem?_set]
  by_cases hk : k < N
  · by_cases hkr : r = k
    · subst hkr
      rw [if_pos rfl, wl_at hk, hx]
      simp [wl_, hk]
    · rw [if_neg hkr, wl_at hk, wl_at hk, ce_ne (fun h => hkr h.symm)]
  · have h1 : (wl_ w nf cA N ad (up_ M r i v))[k]? = none := by
      rw [List.getElem?_eq_none_iff]
      simp [wl_]
      omega
    have h2 : (wl_ w nf cA N ad M)[k]? = none := by
      rw [List.getElem?_eq_none_iff]
      simp [wl_]
      omega
    rw [h1, h2]
    split
    · rename_i h
      subst h
      simp [wl_, hk]
    · rfl
theorem ce_upI {w : wd_} {nf : Nat → Nat} {cA : Nat → ClassId} {ad : Nat → Nat} {M : mm_} {r : Nat} {k v : Int} (h : w.1 r = 99) (h4 : w.2.2.2.1 r ≠ 4) (hk : 0 ≤ k) : ce_ w nf cA ad (up_ M r k v) r = .inl (cA (w.2.2.2.1 r), w.2.2.2.2 r, .inl (upd (fun j : Nat => Int32.ofInt (M r j)) k.toNat (Int32.ofInt v))) := by
  rw [ce_arr h h4]
  congr 3
  congr 1
  funext j
  unfold upd
  rw [up_eq]
  dsimp only
  by_cases hj : j = k.toNat
  · rw [if_pos hj, if_pos (by omega)]
  · rw [if_neg hj, if_neg (by omega)]
theorem ce_upL {w : wd_} {nf : Nat → Nat} {cA : Nat → ClassId} {ad : Nat → Nat} {M : mm_} {r : Nat} {k v : Int} (h : w.1 r = 99) (h4 : w.2.2.2.1 r = 4) (hk : 0 ≤ k) : ce_ w nf cA ad (up_ M r k v) r = .inl (cA (w.2.2.2.1 r), w.2.2.2.2 r, .inr (.inl (vp_updL (fun j : Nat => Int64.ofInt (M r j)) k.toNat (Int64.ofInt v)))) := by
  rw [ce_arl h h4]
  congr 3
  congr 2
  funext j
  unfold vp_updL
  rw [up_eq]
  dsimp only
  by_cases hj : j = k.toNat
  · rw [if_pos hj, if_pos (by omega)]
  · rw [if_neg hj, if_neg (by omega)]
theorem ce_upF {w : wd_} {nf : Nat → Nat} {cA : Nat → ClassId} {ad : Nat → Nat} {M : mm_} {r k : Nat} {v : Int} (h : w.1 r ≠ 99) (hk : k < nf (w.1 r)) : ce_ w nf cA ad (up_ M r k v) r = .inr (w.1 r, ((List.range (nf (w.1 r))).map (fv_ w ad M r)).set k (fv_ w ad (up_ M r k v) r k)) := by
  rw [ce_obj h]
  congr 2
  apply List.ext_getElem?
  intro j
  rw [List.getElem?_set]
  by_cases hj : j < nf (w.1 r)
  · by_cases hkj : k = j
    · subst hkj
      rw [if_pos rfl]
      simp [hk]
    · rw [if_neg hkj]
      simp only [List.getElem?_map, List.getElem?_range hj, Option.map_some]
      congr 1
      unfold fv_
      rw [up_off (by omega)]
  · have h1 : ((List.range (nf (w.1 r))).map (fv_ w ad (up_ M r k v) r))[j]? = none := by
      rw [List.getElem?_eq_none_iff]; simp; omega
    have h2 : ((List.range (nf (w.1 r))).map (fv_ w ad M r))[j]? = none := by
      rw [List.getElem?_eq_none_iff]; simp; omega
    rw [h1, h2, if_neg (by omega)]
theorem wl_fs {w : wd_} {nf : Nat → Nat} {ad : Nat → Nat} {M : mm_} {r k : Nat} (hk : k < nf (w.1 r)) : ((List.range (nf (w.1 r))).map (fv_ w ad M r))[k]? = some (fv_ w ad M r k) := by
  simp [List.getElem?_range hk]
/-- the addresses alone -/
theorem wl_D {w : wd_} {nf : Nat → Nat} {cA : Nat → ClassId} {N : Nat} {ad : Nat → Nat} {M : mm_} {A : Nat → Prop} (hi : ∀ i j, i < N → j < N → ad i = ad j → i = j) (hA : ∀ r, r < N → A (ad r)) : va_D A (wl_ w nf cA N ad M) := by
  have key : ∀ (k : Nat) (q : Nat × va_E), (wl_ w nf cA N ad M)[k]? = some q → k < N ∧ q.1 = ad k := by
    intro k q h
    have hk : k < N := by
      have := (List.getElem?_eq_some_iff.mp h).1
      simpa [wl_] using this
    rw [wl_at hk] at h
    exact ⟨hk, by cases h; rfl⟩
  refine ⟨fun i j p q hp hq e => ?_, fun k q hk => ?_⟩
  · obtain ⟨h1, h2⟩ := key i p hp
    obtain ⟨h3, h4⟩ := key j q hq
    exact hi i j h1 h3 (by rw [← h2, ← h4]; exact e)
  · obtain ⟨h1, h2⟩ := key k q hk
    rw [h2]
    exact hA k h1
theorem Rg_up {w : wd_} {nf : Nat → Nat} {N : Nat} {M : mm_} {r : Nat} {i v : Int} (h : Rg_ w nf N M) (hf : w.1 r ≠ 99 → rf_ (w.2.1 (w.1 r) i.toNat) v) (ha : w.1 r = 99 → ra_ (w.2.2.2.1 r) v) (hi : 0 ≤ i) : Rg_ w nf N (up_ M r i v) := by
  intro q hq
  obtain ⟨h1, h2⟩ := h q hq
  by_cases e : q = r
  · subst e
    refine ⟨fun hn k hk => ?_, fun hn j hj => ?_⟩
    · rw [up_eq]
      dsimp only
      split
      · rename_i e
        have : k = i.toNat := by omega
        rw [this]
        exact hf hn
      · exact h1 hn k hk
    · rw [up_eq]
      dsimp only
      split
      · exact ha hn
      · exact h2 hn j hj
  · rw [up_ne e]
    exact ⟨h1, h2⟩
