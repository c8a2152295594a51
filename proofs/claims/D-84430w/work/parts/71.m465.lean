section M465_lc
/-! the check of the law's code -/
set_option maxRecDepth 100000
def wk3_ (o : Nat) (cc : ByteArray) : List en_ → List UInt8 → Nat → Bool
  | [], _, _ => true
  | (q, i, len, a, b, tb) :: es, bs, pc => Nat.ble pc q && (((we2_ cc q i len (bs.drop (q - pc)) && oki_ o q i len a b tb) || nox_ i) && wk3_ o cc es (bs.drop (q - pc)) q)
theorem wk3_ok {o : Nat} {cc : ByteArray} : ∀ (es : List en_) (bs : List UInt8) (pc : Nat), (∀ j, bs[j]? = cc.data.toList[pc + j]?) → wk3_ o cc es bs pc = true → ∀ e ∈ es, (okb_ o cc e || nox_ e.2.1) = true
  | [], _, _, _, _, _, he => by cases he
  | (q, i, len, a, b, tb) :: es, bs, pc, hb, h, e9, he => by
    unfold wk3_ at h
    simp only [Bool.and_eq_true] at h
    have hp := Nat.le_of_ble_eq_true h.1
    have hb2 : ∀ j, (bs.drop (q - pc))[j]? = cc.data.toList[q + j]? := by
      intro j
      rw [List.getElem?_drop, hb]
      congr 1
      omega
    rcases List.mem_cons.mp he with rfl | he
    · rcases Bool.or_eq_true .. ▸ h.2.1 with h1 | h1
      · rw [Bool.and_eq_true] at h1
        rw [Bool.or_eq_true]
        refine .inl ?_
        unfold okb_
        rw [Bool.and_eq_true]
        exact ⟨wen_ok (e := (q, i, len, a, b, tb)) hb2 h1.1, h1.2⟩
      · rw [Bool.or_eq_true]
        exact .inr h1
    · exact wk3_ok es _ _ hb2 h.2.2 e9 he
theorem lwb_w : wk3_ 10 code k_450 code.data.toList 0 = true := by decide +kernel
theorem lwb_ok : k_450.all (fun q => okb_ 10 code q || nox_ q.2.1) = true := List.all_eq_true.mpr fun e he => wk3_ok _ _ _ (fun j => by rw [Nat.zero_add]) lwb_w e he
end M465_lc
