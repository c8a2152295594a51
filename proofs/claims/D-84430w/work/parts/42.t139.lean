section T139_br
/-! a branch of a decide: its ranges -/
section BR
variable {d dq n : Nat} {b F : Int} {Mx Mq Mx1 Mq1 M N M0 N0 M' N' : mm_} {a a0 a' o x dd lo hi i : Int} {K : Int → mm_ → Prop} {Kv G : mm_ → Prop} {Qt : qt_} {V : vv_}
theorem y_163 [Inhabited gh_] (hE : ER b F Mx Mq a o) (ht : isR (Mx 70) a → K 1 Mx) (hf : ¬ isR (Mx 70) a → K 0 Mx) : Tr_ wd0 pg0 (d + 2) 163 [.inr (.inr 1)] Mx (ri_ K) Qt := by
  refine t_163 fun V hV hW => b_163_0 (Tr_mono _) hV hW Mx ?_
  have h1 : isR (Mx 70) a → bl_ 1 ∧ ri_ K [.inl 1] Mx := fun c => ⟨.inr rfl, ri_i (ht c)⟩
  refine y_103 hE (fun e => ?_) (fun e1 => ?_)
  · rw [if_neg (by decide)]; exact h1 (.inl e)
  rw [if_pos rfl]
  refine y_117 hE (by decide) (fun e => ?_) (fun e2 => ?_)
  · rw [if_neg (by decide)]; exact h1 (.inr (.inl e))
  rw [if_pos rfl]
  refine y_103 hE (fun e => ?_) (fun e3 => ?_)
  · rw [if_neg (by decide)]; exact h1 (.inr (.inr (.inl e)))
  rw [if_pos rfl]
  refine y_103 hE (fun e => ?_) (fun e4 => ?_)
  · rw [if_neg (by decide)]; exact h1 (.inr (.inr (.inr e)))
  rw [if_pos rfl]
  exact ⟨.inl rfl, ri_i (hf (by rintro (e | e | e | e); exact e1 e; exact e2 e; exact e3 e; exact e4 e))⟩
theorem j_292 [Inhabited gh_] (hT : Tks Mx Mq) (hE : ER b F Mx Mq a o) (ht : isR (Mx 70) a → K 1 Mq) (hf : ¬ isR (Mx 70) a → K 0 Mq) : Tr_ wd0 pg0 (d + 2) 292 [.inr (.inr 6)] Mq (ri_ K) Qt := by
  obtain ⟨e1, e2, e3, e4, e5, e6⟩ := ER_k hT hE
  refine t_292 fun V hV hW => b_292_0 (Tr_mono _) hV hW Mq ⟨e3, ?_⟩
  have h1 : isR (Mx 70) a → bl_ 1 ∧ ri_ K [.inl 1] Mq := fun c => ⟨.inr rfl, ri_i (ht c)⟩
  by_cases c1 : Mx 70 a = 101
  · rw [if_pos ((kq_u e1).mpr c1)]; exact h1 (.inl c1)
  rw [if_neg (fun c => c1 ((kq_u e1).mp c))]
  by_cases c2 : Mx 70 a = 245
  · refine j_237t hT hE (by decide) c2 ?_
    rw [if_neg (by decide)]; exact h1 (.inr (.inl c2))
  refine j_237f hT hE (by decide) c2 ?_
  rw [if_pos rfl]
  by_cases c3 : Mx 70 a = 31
  · refine j_229t hT hE (by decide) c3 ?_
    rw [if_neg (by decide)]; exact h1 (.inr (.inr (.inl c3)))
  refine j_229f hT hE (by decide) c3 ?_
  rw [if_pos rfl]
  by_cases c4 : Mx 70 a = 32
  · refine j_229t hT hE (by decide) c4 ?_
    rw [if_neg (by decide)]; exact h1 (.inr (.inr (.inr c4)))
  refine j_229f hT hE (by decide) c4 ?_
  rw [if_pos rfl]
  exact ⟨.inl rfl, ri_i (hf (by rintro (e | e | e | e); exact c1 e; exact c2 e; exact c3 e; exact c4 e))⟩
/-- X: what is no range -/
theorem x_164w [Inhabited gh_] {x1 : Int} (hE : ER b F Mx Mq a o) (hn : ¬ isR (Mx 70) a) (h : Qt 8 (flX_ Mx 1 a)) : Tr_ wd0 pg0 (d + 6) 164 [.inr (.inr 1), .inl x1] Mx (rv_ Kv) Qt := by
  refine t_164 fun V hV hW => b_164_0 (Tr_mono _) hV hW _ _ ?_
  refine y_103 hE (fun e => absurd (.inr (.inr (.inl e))) hn) (fun _ => ?_)
  rw [if_pos rfl]
  refine y_103 hE (fun e => absurd (.inr (.inr (.inr e))) hn) (fun _ => ?_)
  rw [if_pos rfl]
  refine t_165 fun V hV hW => b_165_0 (Tr_mono _) hV hW Mx ?_
  refine y_117 hE (by decide) (fun e => absurd (.inr (.inl e)) hn) (fun _ => ?_)
  rw [if_pos rfl]
  refine x_125 (ER_iX hE) (fun h1 _ => absurd (.inl (by rw [← hE.2.1]; exact h1)) hn) (fun _ => by rw [hE.2.1]; exact h) (fun h1 _ => absurd (.inl (by rw [← hE.2.1]; exact h1)) hn)
/-- a range, in one -/
theorem y_164 [Inhabited gh_] {x1 : Int} (hT : Tks Mx Mq) (hVT : VT Mx Mq) (hE : ER b F Mx Mq a o) (hS : b = 1 → rgS (Mx 70) a ≠ none) (hd : 0 ≤ dd ∧ dd < 14) (h90 : 0 ≤ Mq 6 90 ∧ Mq 6 90 < 1300) (hl : Mq 222 dd < 1300) (hc : 0 ≤ Mq 220 dd ∧ Mq 220 dd < 1300) (hx1 : b = 1 → Mq 223 dd = x1 + 1) (hfl : Mx 1 7 + 2 + 8 * (1201 - a) ≤ 1000001000 - (gg_ : Int)) (hst : Mx 5 3 + 2 ≤ 9 * a + 1000)
    (hK : ∀ Mx' Mq' a' lo hi, RR b F Mx Mq Mx' Mq' a a' o dd lo hi → rgS (Mx 70) a = some a' → (∀ (Kv : mm_ → Prop) (Qtq : qt_), Kv Mq' → Tr_ wd0 pg0 (dq + 5) 293 [.inr (.inr 6), .inl dd, .inl (Mx 71 a)] Mq (rv_ Kv) Qtq) → Kv Mx')
    (hQ : b = 0 → ∀ Mx', XF Mx Mx' → (∀ (Kv : mm_ → Prop) (Qtq : qt_), (∀ M', SQ Mx' Mq M' → Kv M') → Tr_ wd0 pg0 (dq + 5) 293 [.inr (.inr 6), .inl dd, .inl (Mx 71 a)] Mq (rv_ Kv) Qtq) → Qt 8 Mx') :
    Tr_ wd0 pg0 (d + 6) 164 [.inr (.inr 1), .inl x1] Mx (rv_ Kv) Qt := by
  by_cases c : Mx 70 a = 31 ∨ Mx 70 a = 32
  · have eS : rgS (Mx 70) a = gS a := by unfold rgS; rw [if_pos c]
    exact y_164t (d := d + 3) (dq := dq) hT hVT hE c (fun hb => gS_n (by rw [← eS]; exact hS hb)) hd h90 hl hc hx1 hfl hst (fun Mx' Mq' lo hi hR h12 hq => hK Mx' Mq' (a + 1) lo hi hR (by rw [eS, gS_e h12]) hq) hQ
  · exact y_164n (dq := dq) hT hVT hE (by (clear hT hVT hE hS hd h90 hl hc hx1 hfl hst hK hQ; lia)) hS hd h90 hl hc hx1 hfl hst hK hQ
/-- i ranges of a branch are read; q: the op at which its part begins -/
def BLR [Inhabited gh_] (b F : Int) (M0 N0 M N : mm_) (a0 a o dd i : Int) : Prop :=
  ER b F M N a o ∧ XF M0 M ∧ (0 ≤ i ∧ i ≤ 8) ∧ ((∀ r : Nat, r ∉ [6, 206, 216, 217, 218, 219, 221, 222] → N r = N0 r) ∧ (∀ j : Int, j ≠ 12 → j ≠ 13 → j ≠ 14 → j ≠ 90 → N 6 j = N0 6 j) ∧ (∀ j, j ≠ N0 220 dd → N 206 j = N0 206 j) ∧ (∀ j, j ≠ dd → N 221 j = N0 221 j ∧ N 222 j = N0 222 j))
  ∧ (N 6 90 = N0 6 90 + i ∧ N 221 dd = N0 221 dd + i ∧ N 222 dd = (if i = 0 then N0 222 dd else N0 6 90 + i - 1) ∧ N 206 (N0 220 dd) = (if i = 0 ∨ 0 ≤ N0 222 dd then N0 206 (N0 220 dd) else N0 6 90))
  ∧ ((∀ j, j < N0 6 90 → N 216 j = N0 216 j ∧ N 217 j = N0 217 j ∧ N 218 j = N0 218 j ∧ (j ≠ N0 222 dd → N 219 j = N0 219 j)) ∧ (0 ≤ N0 222 dd → N 219 (N0 222 dd) = (if i = 0 then N0 219 (N0 222 dd) else N0 6 90)))
  ∧ (∀ j, 0 ≤ j → j < i → N 218 (N0 6 90 + j) = N0 6 75 ∧ N 219 (N0 6 90 + j) = (if j + 1 < i then N0 6 90 + j + 1 else -1) ∧ (b = 1 → M 142 (M0 5 3 + 2 * j) = N 216 (N0 6 90 + j) ∧ M 142 (M0 5 3 + 2 * j + 1) = N 217 (N0 6 90 + j)))
  ∧ (M 5 3 = M0 5 3 + (if b = 0 then 0 else 2 * i) ∧ ∀ j, j < M0 5 3 → M 142 j = M0 142 j) ∧ (M0 1 7 ≤ M 1 7 ∧ M 1 7 ≤ M0 1 7 + 2 * i) ∧ (b = 1 → N 6 13 = 0 → N0 6 13 = 0)
theorem BLR_0 [Inhabited gh_] (hE : ER b F M N a o) : BLR b F M N M N a a o dd 0 := ⟨hE, XF_rf, by decide, ⟨fun _ _ => rfl, fun _ _ _ _ _ => rfl, fun _ _ => rfl, fun _ _ => ⟨rfl, rfl⟩⟩, ⟨by omega, by omega, by rw [if_pos rfl], by rw [if_pos (.inl rfl)]⟩, ⟨fun _ _ => ⟨rfl, rfl, rfl, fun _ => rfl⟩, fun _ => by rw [if_pos rfl]⟩, fun j h1 h2 => by omega, ⟨by split <;> omega, fun _ _ => rfl⟩, by omega, fun _ h => h⟩
theorem rgM_r [Inhabited gh_] {r : Nat} (hr : r ∉ [6, 206, 216, 217, 218, 219, 222]) : rgM_ M dd lo hi r = M r := by
  simp only [List.mem_cons, List.not_mem_nil, or_false, not_or] at hr
  obtain ⟨y1, y2, y3, y4, y5, y6, y7⟩ := hr
  unfold rgM_
  split
  · rw [up_ne y1, up_ne y7, up_ne y2, up_ne y6, up_ne y5, up_ne y4, up_ne y3]
  · rw [up_ne y1, up_ne y7, up_ne y6, up_ne y6, up_ne y5, up_ne y4, up_ne y3]
theorem rgM_90 [Inhabited gh_] : rgM_ M dd lo hi 6 90 = M 6 90 + 1 := by unfold rgM_; split <;> rw [up_at]
theorem rgM_216 [Inhabited gh_] {j : Int} : rgM_ M dd lo hi 216 j = if j = M 6 90 then lo else M 216 j := by
  unfold rgM_; split
  · rw [up_ne (by decide), up_ne (by decide), up_ne (by decide), up_ne (by decide), up_ne (by decide), up_ne (by decide), ua_, if_pos rfl]
  · rw [up_ne (by decide), up_ne (by decide), up_ne (by decide), up_ne (by decide), up_ne (by decide), up_ne (by decide), ua_, if_pos rfl]
theorem rgM_217 [Inhabited gh_] {j : Int} : rgM_ M dd lo hi 217 j = if j = M 6 90 then hi else M 217 j := by
  unfold rgM_; split
  · rw [up_ne (by decide), up_ne (by decide), up_ne (by decide), up_ne (by decide), up_ne (by decide), ua_, if_pos rfl, up_ne (by decide)]
  · rw [up_ne (by decide), up_ne (by decide), up_ne (by decide), up_ne (by decide), up_ne (by decide), ua_, if_pos rfl, up_ne (by decide)]
theorem rgM_218 [Inhabited gh_] {j : Int} : rgM_ M dd lo hi 218 j = if j = M 6 90 then M 6 75 else M 218 j := by
  unfold rgM_; split
  · rw [up_ne (by decide), up_ne (by decide), up_ne (by decide), up_ne (by decide), ua_, if_pos rfl, up_ne (by decide), up_ne (by decide)]
  · rw [up_ne (by decide), up_ne (by decide), up_ne (by decide), up_ne (by decide), ua_, if_pos rfl, up_ne (by decide), up_ne (by decide)]
theorem rgM_219 [Inhabited gh_] {j : Int} : rgM_ M dd lo hi 219 j = if 0 ≤ M 222 dd ∧ j = M 222 dd then M 6 90 else if j = M 6 90 then -1 else M 219 j := by
  unfold rgM_
  by_cases c : M 222 dd < 0
  · rw [if_pos c, if_neg (by omega), up_ne (by decide), up_ne (by decide), up_ne (by decide), ua_, if_pos rfl, up_ne (by decide), up_ne (by decide), up_ne (by decide)]
  · rw [if_neg c, up_ne (by decide), up_ne (by decide), ua_, if_pos rfl]
    by_cases c2 : j = M 222 dd
    · rw [if_pos c2, if_pos ⟨by lia, c2⟩]
    · rw [if_neg c2, if_neg (fun e => c2 e.2), ua_, if_pos rfl, up_ne (by decide), up_ne (by decide), up_ne (by decide)]
theorem rgM_206 [Inhabited gh_] {j : Int} : rgM_ M dd lo hi 206 j = if M 222 dd < 0 ∧ j = M 220 dd then M 6 90 else M 206 j := by
  unfold rgM_
  by_cases c : M 222 dd < 0
  · rw [if_pos c, up_ne (by decide), up_ne (by decide), ua_, if_pos rfl]
    by_cases c2 : j = M 220 dd
    · rw [if_pos c2, if_pos ⟨c, c2⟩]
    · rw [if_neg c2, if_neg (fun e => c2 e.2), up_ne (by decide), up_ne (by decide), up_ne (by decide), up_ne (by decide)]
  · rw [if_neg c, if_neg (fun e => c e.1), up_ne (by decide), up_ne (by decide), up_ne (by decide), up_ne (by decide), up_ne (by decide), up_ne (by decide), up_ne (by decide)]
theorem rgM_222 [Inhabited gh_] {j : Int} : rgM_ M dd lo hi 222 j = if j = dd then M 6 90 else M 222 j := by
  unfold rgM_; split
  · rw [up_ne (by decide), ua_, if_pos rfl, up_ne (by decide), up_ne (by decide), up_ne (by decide), up_ne (by decide), up_ne (by decide)]
  · rw [up_ne (by decide), ua_, if_pos rfl, up_ne (by decide), up_ne (by decide), up_ne (by decide), up_ne (by decide), up_ne (by decide)]
theorem BLR_1 [Inhabited gh_] {a2 : Int} (h : BLR b F M0 N0 M N a0 a o dd i) (hi8 : i < 8) (hl0 : N0 222 dd < N0 6 90) (hn0 : 0 ≤ N0 6 90) (hR : RR b F M (up_ N 221 dd (N 221 dd + 1)) M' N' a a2 o dd lo hi) : BLR b F M0 N0 M' N' a0 a2 o dd (i + 1) := by
  obtain ⟨h1, h2, h3, ⟨h4, h5, h6, h7⟩, ⟨g1, g2, g3, g4⟩, ⟨k1, k2⟩, k3, ⟨k4, k5⟩, k6, k7⟩ := h
  obtain ⟨r1, r2, r3, ⟨Nq, rN, rM⟩, r5, r6, r7, r8, r9⟩ := hR
  have h01 := bl01 h1
  have n6 : ∀ j : Int, j ≠ 12 → j ≠ 13 → j ≠ 14 → Nq 6 j = N 6 j := fun j x y z => by rw [rN.2 j x y z, up_ne (by decide)]
  have nr : ∀ r : Nat, r ≠ 6 → r ≠ 221 → Nq r = N r := fun r x y => by rw [rN.1 r x, up_ne y]
  have q90 : Nq 6 90 = N0 6 90 + i := by rw [n6 90 (by decide) (by decide) (by decide)]; exact g1
  have q75 : Nq 6 75 = N0 6 75 := by rw [n6 75 (by decide) (by decide) (by decide), h5 75 (by decide) (by decide) (by decide) (by decide)]
  have q220 : Nq 220 dd = N0 220 dd := by rw [nr 220 (by decide) (by decide), h4 220 (by decide)]
  have q222 : Nq 222 dd = (if i = 0 then N0 222 dd else N0 6 90 + i - 1) := by rw [nr 222 (by decide) (by decide)]; exact g3
  have q221 : ∀ j, N' 221 j = if j = dd then N 221 dd + 1 else N 221 j := fun j => by rw [rM, rgM_r (by decide), rN.1 221 (by decide), ua_, if_pos rfl]
  have l2 : Nq 222 dd < N0 6 90 + i := by rw [q222]; split <;> (clear hi8 hn0 h1 h2 h3 h4 h5 h6 h7 g3 g4 k1 k2 k3 k4 k5 k6 k7 r1 r2 r3 rN rM r5 r6 r7 r8 r9 h01 n6 nr q75 q220 q222 q221; lia)
  refine ⟨r2, XF_tr h2 r3, by (clear hl0 hn0 h1 h2 h4 h5 h6 h7 g3 g4 k1 k2 k3 k4 k5 k6 k7 r1 r2 r3 rN rM r5 r6 r7 r8 r9 h01 n6 nr q90 q75 q220 q222 q221 l2; lia), ⟨fun r hr => ?_, fun j x y z u => ?_, fun j hj => ?_, fun j hj => ⟨?_, ?_⟩⟩, ⟨?_, ?_, ?_, ?_⟩, ⟨fun j hj => ⟨?_, ?_, ?_, fun hj2 => ?_⟩, fun h0 => ?_⟩, fun j j0 j1 => ⟨?_, ?_, fun hb => ?_⟩, ⟨?_, fun j hj => ?_⟩, by (clear hl0 hn0 h1 h2 h4 h5 h6 h7 g3 g4 k1 k2 k3 k4 k5 k7 r1 r2 r3 rN rM r5 r6 r7 r9 h01 n6 nr q90 q75 q220 q222 q221 l2; lia), fun hb h0 => ?_⟩
  · have hr2 : r ∉ [6, 206, 216, 217, 218, 219, 222] := fun e => hr (by revert e; simp only [List.mem_cons, List.not_mem_nil, or_false]; (clear hi8 hl0 hn0 h1 h2 h3 h4 h5 h6 h7 g1 g2 g3 g4 k1 k2 k3 k4 k5 k6 k7 r1 r2 r3 rN rM r5 r6 r7 r8 r9 h01 n6 nr q90 q75 q220 q222 q221 l2 hr; lia))
    have h6 : r ≠ 6 := fun e => hr (by rw [e]; decide)
    have h221 : r ≠ 221 := fun e => hr (by rw [e]; decide)
    rw [rM, rgM_r hr2, nr r h6 h221]; exact h4 r hr
  · rw [rM, rgM_6 u, n6 j x y z]; exact h5 j x y z u
  · rw [rM, rgM_206, if_neg (by rw [q220]; exact fun e => hj e.2), nr 206 (by decide) (by decide)]; exact h6 j hj
  · rw [q221, if_neg hj]; exact (h7 j hj).1
  · rw [rM, rgM_222, if_neg hj, nr 222 (by decide) (by decide)]; exact (h7 j hj).2
  · rw [rM, rgM_90, q90]; (clear hi8 hl0 hn0 h1 h2 h3 h4 h5 h6 h7 g1 g2 g3 g4 k1 k2 k3 k4 k5 k6 k7 r1 r2 r3 rN rM r5 r6 r7 r8 r9 h01 n6 nr q90 q75 q220 q222 q221 l2; lia)
  · rw [q221, if_pos rfl]; (clear hi8 hl0 hn0 h1 h2 h3 h4 h5 h6 h7 g3 g4 k1 k2 k3 k4 k5 k6 k7 r1 r2 r3 rN rM r5 r6 r7 r8 r9 h01 n6 nr q90 q75 q220 q222 q221 l2; lia)
  · rw [rM, rgM_222, if_pos rfl, q90, if_neg (by (clear hl0 hn0 h1 h2 h4 h5 h6 h7 g3 g4 k1 k2 k3 k4 k5 k6 k7 r1 r2 r3 rN rM r5 r6 r7 r8 r9 h01 n6 nr q90 q75 q220 q222 q221 l2; lia))]; (clear hi8 hl0 hn0 h1 h2 h3 h4 h5 h6 h7 g1 g2 g3 g4 k1 k2 k3 k4 k5 k6 k7 r1 r2 r3 rN rM r5 r6 r7 r8 r9 h01 n6 nr q90 q75 q220 q222 q221 l2; lia)
  · rw [rM, rgM_206, q220, q222, q90, nr 206 (by decide) (by decide)]
    by_cases c : i = 0
    · rw [if_pos c] at *
      rw [c]
      by_cases c2 : N0 222 dd < 0
      · rw [if_pos ⟨c2, rfl⟩, if_neg (by (clear hi8 hl0 hn0 h1 h2 h3 h4 h5 h6 h7 g1 g2 g4 k1 k2 k3 k4 k5 k6 k7 r1 r2 r3 rN rM r5 r6 r7 r8 r9 h01 n6 nr q90 q75 q220 q221 l2 c; lia))]; (clear hi8 hl0 hn0 h1 h2 h3 h4 h5 h6 h7 g1 g2 g3 g4 k1 k2 k3 k4 k5 k6 k7 r1 r2 r3 rN rM r5 r6 r7 r8 r9 h01 n6 nr q90 q75 q220 q222 q221 l2 c c2; lia)
      · rw [if_neg (fun e => c2 e.1), if_pos (.inr (by (clear hi8 hl0 hn0 h1 h2 h3 h4 h5 h6 h7 g1 g2 g4 k1 k2 k3 k4 k5 k6 k7 r1 r2 r3 rN rM r5 r6 r7 r8 r9 h01 n6 nr q90 q75 q220 q221 l2 c; lia))), g4, if_pos (.inl c)]
    · rw [if_neg c]
      by_cases c2 : N0 6 90 + i - 1 < 0
      · (clear h1 h2 h4 h5 h6 h7 g3 g4 k1 k2 k3 k4 k5 k6 k7 r1 r2 r3 rN rM r5 r6 r7 r8 r9 h01 n6 nr q75 q220 q222 q221 l2 c; lia)
      · rw [if_neg (fun e => c2 e.1), g4]
        by_cases c3 : 0 ≤ N0 222 dd
        · rw [if_pos (.inr c3), if_pos (.inr c3)]
        · rw [if_neg (by (clear hi8 hl0 hn0 h1 h2 h3 h4 h5 h6 h7 g3 g4 k1 k2 k3 k4 k5 k6 k7 r1 r2 r3 rN rM r5 r6 r7 r8 r9 h01 n6 nr q90 q75 q220 q222 q221 l2 c2; lia)), if_neg (by omega)]
  · rw [rM, rgM_216, if_neg (by (clear hl0 hn0 h1 h2 h4 h5 h6 h7 g3 g4 k1 k2 k3 k4 k5 k6 k7 r1 r2 r3 rN rM r5 r6 r7 r8 r9 h01 n6 nr q75 q220 q222 q221 l2; lia)), nr 216 (by decide) (by decide)]; exact (k1 j hj).1
  · rw [rM, rgM_217, if_neg (by omega), nr 217 (by decide) (by decide)]; exact (k1 j hj).2.1
  · rw [rM, rgM_218, if_neg (by omega), nr 218 (by decide) (by decide)]; exact (k1 j hj).2.2.1
  · rw [rM, rgM_219, if_neg, if_neg (by (clear hl0 hn0 h1 h2 h4 h5 h6 h7 g3 g4 k1 k2 k3 k4 k5 k6 k7 r1 r2 r3 rN rM r5 r6 r7 r8 r9 h01 n6 nr q75 q220 q222 q221 l2 hj2; lia)), nr 219 (by decide) (by decide)]
    · exact (k1 j hj).2.2.2 hj2
    · rw [q222]
      by_cases c : i = 0
      · rw [if_pos c]; exact fun e => hj2 e.2
      · rw [if_neg c]; (clear hl0 hn0 h1 h2 h4 h5 h6 h7 g3 g4 k1 k2 k3 k4 k5 k6 k7 r1 r2 r3 rN rM r5 r6 r7 r8 r9 h01 n6 nr q75 q220 q222 q221 l2 hj2; lia)
  · rw [rM, rgM_219, q222, q90]
    by_cases c : i = 0
    · rw [if_pos c, if_pos ⟨h0, rfl⟩, if_neg (by (clear hi8 hl0 hn0 h1 h2 h3 h4 h5 h6 h7 g3 g4 k1 k2 k3 k4 k5 k6 k7 r1 r2 r3 rN rM r5 r6 r7 r8 r9 h01 n6 nr q90 q75 q220 q222 q221 l2 h0; omega))]; (clear hi8 hl0 hn0 h1 h2 h3 h4 h5 h6 h7 g3 g4 k1 k2 k3 k4 k5 k6 k7 r1 r2 r3 rN rM r5 r6 r7 r8 r9 h01 n6 nr q90 q75 q220 q222 q221 l2 h0; lia)
    · rw [if_neg c, if_neg (by (clear hn0 h1 h2 h4 h5 h6 h7 g3 g4 k1 k2 k3 k4 k5 k6 k7 r1 r2 r3 rN rM r5 r6 r7 r8 r9 h01 n6 nr q75 q220 q222 q221 l2 h0; lia)), if_neg (by (clear hn0 h1 h2 h4 h5 h6 h7 g3 g4 k1 k2 k3 k4 k5 k6 k7 r1 r2 r3 rN rM r5 r6 r7 r8 r9 h01 n6 nr q75 q220 q222 q221 l2 h0 c; lia)), nr 219 (by decide) (by decide), k2 h0, if_neg c, if_neg (by omega)]
  · rw [rM, rgM_218, q90, q75]
    by_cases c : j = i
    · rw [if_pos (by (clear hi8 hl0 hn0 h1 h2 h3 h4 h5 h6 h7 g3 g4 k1 k2 k3 k4 k5 k6 k7 r1 r2 r3 rN rM r5 r6 r7 r8 r9 h01 n6 nr q90 q75 q220 q222 q221 l2 j0 j1; lia))]
    · rw [if_neg (by (clear hi8 hl0 hn0 h1 h2 h3 h4 h5 h6 h7 g3 g4 k1 k2 k3 k4 k5 k6 k7 r1 r2 r3 rN rM r5 r6 r7 r8 r9 h01 n6 nr q90 q75 q220 q222 q221 l2 j0 j1; lia)), nr 218 (by decide) (by decide)]; exact (k3 j j0 (by (clear hi8 hl0 hn0 h1 h2 h3 h4 h5 h6 h7 g3 g4 k1 k2 k3 k4 k5 k6 k7 r1 r2 r3 rN rM r5 r6 r7 r8 r9 h01 n6 nr q90 q75 q220 q222 q221 l2 j0; lia))).1
  · rw [rM, rgM_219, q222, q90]
    by_cases c : j = i
    · rw [if_neg (by
        rintro ⟨e1, e2⟩
        by_cases c2 : i = 0
        · rw [if_pos c2] at e2; (clear hn0 h1 h2 h4 h5 h6 h7 g3 g4 k1 k2 k3 k4 k5 k6 k7 r1 r2 r3 rN rM r5 r6 r7 r8 r9 h01 n6 nr q75 q220 q222 q221 l2 j0 j1 e1 c2; lia)
        · rw [if_neg c2] at e2; (clear hi8 hl0 hn0 h1 h2 h3 h4 h5 h6 h7 g3 g4 k1 k2 k3 k4 k5 k6 k7 r1 r2 r3 rN rM r5 r6 r7 r8 r9 h01 n6 nr q90 q75 q220 q222 q221 l2 j0 j1 e1 c2; omega)), if_pos (by omega), if_neg (by (clear hi8 hl0 hn0 h1 h2 h3 h4 h5 h6 h7 g3 g4 k1 k2 k3 k4 k5 k6 k7 r1 r2 r3 rN rM r5 r6 r7 r8 r9 h01 n6 nr q90 q75 q220 q222 q221 l2 j0 j1; lia))]
    · have ji : j < i := by omega
      have i0 : i ≠ 0 := by (clear hi8 hl0 hn0 h1 h2 h3 h4 h5 h6 h7 g3 g4 k1 k2 k3 k4 k5 k6 k7 r1 r2 r3 rN rM r5 r6 r7 r8 r9 h01 n6 nr q90 q75 q220 q222 q221 l2 j1 c; lia)
      rw [if_neg i0]
      by_cases c3 : j + 1 = i
      · by_cases c4 : 0 ≤ N0 6 90 + i - 1
        · rw [if_pos ⟨c4, by (clear hi8 hl0 hn0 h1 h2 h3 h4 h5 h6 h7 g3 g4 k1 k2 k3 k4 k5 k6 k7 r1 r2 r3 rN rM r5 r6 r7 r8 r9 h01 n6 nr q90 q75 q220 q222 q221 l2 j0 j1 c ji i0 c4; lia)⟩, if_pos (by (clear hi8 hl0 hn0 h1 h2 h3 h4 h5 h6 h7 g3 g4 k1 k2 k3 k4 k5 k6 k7 r1 r2 r3 rN rM r5 r6 r7 r8 r9 h01 n6 nr q90 q75 q220 q222 q221 l2 j0 j1 c ji i0 c4; lia))]; (clear hi8 hl0 hn0 h1 h2 h3 h4 h5 h6 h7 g3 g4 k1 k2 k3 k4 k5 k6 k7 r1 r2 r3 rN rM r5 r6 r7 r8 r9 h01 n6 nr q90 q75 q220 q222 q221 l2 j0 j1 c ji i0 c4; lia)
        · (clear hl0 h1 h2 h4 h5 h6 h7 g3 g4 k1 k2 k3 k4 k5 k6 k7 r1 r2 r3 rN rM r5 r6 r7 r8 r9 h01 n6 nr q75 q220 q222 q221 l2 j1 c ji i0; omega)
      · rw [if_neg (by (clear hi8 hl0 hn0 h1 h2 h3 h4 h5 h6 h7 g3 g4 k1 k2 k3 k4 k5 k6 k7 r1 r2 r3 rN rM r5 r6 r7 r8 r9 h01 n6 nr q90 q75 q220 q222 q221 l2 j0 j1 c ji i0; lia)), if_neg (by (clear hi8 hl0 hn0 h1 h2 h3 h4 h5 h6 h7 g3 g4 k1 k2 k3 k4 k5 k6 k7 r1 r2 r3 rN rM r5 r6 r7 r8 r9 h01 n6 nr q90 q75 q220 q222 q221 l2 j0 j1 c i0 c3; omega)), nr 219 (by decide) (by decide), (k3 j j0 ji).2.1, if_pos (by (clear hi8 hl0 hn0 h1 h2 h3 h4 h5 h6 h7 g3 g4 k1 k2 k3 k4 k5 k6 k7 r1 r2 r3 rN rM r5 r6 r7 r8 r9 h01 n6 nr q90 q75 q220 q222 q221 l2 j0 j1 c i0; omega)), if_pos (by (clear hi8 hl0 hn0 h1 h2 h3 h4 h5 h6 h7 g3 g4 k1 k2 k3 k4 k5 k6 k7 r1 r2 r3 rN rM r5 r6 r7 r8 r9 h01 n6 nr q90 q75 q220 q222 q221 l2 j0 j1 c i0 c3; omega))]
  · have e53 : M 5 3 = M0 5 3 + 2 * i := by rw [k4, if_neg (by (clear hi8 hl0 hn0 h1 h2 h3 h4 h5 h6 h7 g1 g2 g3 g4 k1 k2 k3 k4 k5 k6 k7 r1 r2 r3 rN rM r5 r6 r7 r8 r9 h01 n6 nr q90 q75 q220 q222 q221 l2 j0 j1; lia))]
    by_cases c : j = i
    · rw [c, ← e53, rM, rgM_216, rgM_217, q90, if_pos rfl, if_pos rfl]; exact r7 hb
    · have ji : j < i := by omega
      rw [r6 _ (by (clear hi8 hl0 hn0 h1 h2 h3 h4 h5 h6 h7 g3 g4 k1 k2 k3 k5 k6 k7 r1 r2 r3 rN rM r5 r6 r7 r8 r9 h01 n6 nr q90 q75 q220 q222 q221 l2 j0 j1 hb c; lia)), r6 _ (by (clear hi8 hl0 hn0 h1 h2 h3 h4 h5 h6 h7 g3 g4 k1 k2 k3 k5 k6 k7 r1 r2 r3 rN rM r5 r6 r7 r8 r9 h01 n6 nr q90 q75 q220 q222 q221 l2 j0 j1 hb c; lia)), rM, rgM_216, rgM_217, q90, if_neg (by omega), if_neg (by omega), nr 216 (by decide) (by decide), nr 217 (by decide) (by decide)]
      exact (k3 j j0 ji).2.2 hb
  · rw [r5, k4]; split <;> (clear hi8 hl0 hn0 h1 h2 h3 h4 h5 h6 h7 g1 g2 g3 g4 k1 k2 k3 k4 k5 k6 k7 r1 r2 r3 rN rM r5 r6 r7 r8 r9 h01 n6 nr q90 q75 q220 q222 q221 l2; lia)
  · have : M0 5 3 ≤ M 5 3 := by rw [k4]; split <;> omega
    rw [r6 j (by (clear hi8 hl0 hn0 h1 h2 h3 h4 h5 h6 h7 g1 g2 g3 g4 k1 k2 k3 k5 k6 k7 r1 r2 r3 rN rM r6 r7 r8 r9 h01 n6 nr q90 q75 q220 q222 q221 l2; omega))]; exact k5 j hj
  · have := r9 hb h0
    rw [up_ne (by decide)] at this
    exact k7 hb this
end BR
end T139_br
section T140_br
/-! the loop over the ranges of a branch -/
section BR
variable {d dq n : Nat} {b F : Int} {Mx Mq Mx1 Mq1 M N M0 N0 M' N' : mm_} {a a0 a' o x dd lo hi i : Int} {K : Int → mm_ → Prop} {Kv G : mm_ → Prop} {Qt : qt_} {V : vv_}
/-- Q's branch, once stopped -/
theorem q_291s [Inhabited gh_] {x1 x2 : Int} (hV : Cl_ wd0 (Tr_ wd0 pg0 (d + 3)) V (rv_ Kv) Qt m_291) (hW : Wk_ V) (hs : sp_ M) (h : Kv M) : V 9 [rr 6, ii x1, ii x2, none] [] M := by
  refine b_291_9 (Tr_mono _) hV hW _ _ _ ?_
  by_cases c : x2 = 0
  · rw [if_pos c]; exact q_244s hs (rv_i h)
  · rw [if_neg c]
    refine q_227s hs ?_
    rw [if_neg (by decide)]
    exact q_244s hs (rv_i h)
theorem ER_go' [Inhabited gh_] (h : ER b F Mx Mq a o) (h12 : a < 1200) (hk : Mx 70 a ≠ 102 ∧ Mx 70 a ≠ 103) : ER b F (nX_ Mx) (nx_ Mq) (a + 1) o := (ER_go h h12 hk).1
theorem BLR_go [Inhabited gh_] (h : BLR b F M0 N0 M N a0 a o dd i) (hE : ER b F (nX_ M) (nx_ N) (a + 1) o) : BLR b F M0 N0 (nX_ M) (nx_ N) a0 (a + 1) o dd i := by
  obtain ⟨h1, h2, h3, ⟨h4, h5, h6, h7⟩, ⟨g1, g2, g3, g4⟩, ⟨k1, k2⟩, k3, ⟨k4, k5⟩, k6, k7⟩ := h
  have r : ∀ r : Nat, r ≠ 6 → nx_ N r = N r := fun r h => nx_ne h
  have s : ∀ j : Int, j ≠ 12 → nx_ N 6 j = N 6 j := fun j h => nx_6 h
  have x : ∀ r : Nat, r ≠ 1 → nX_ M r = M r := fun r h => nX_ne h
  refine ⟨hE, XF_tr h2 nX_XF, h3, ⟨fun q hq => ?_, fun j a b c e => ?_, ?_, ?_⟩, ?_, ?_, ?_, ?_, ?_, ?_⟩
  · rw [r q (fun e => hq (by rw [e]; decide))]; exact h4 q hq
  · rw [s j a]; exact h5 j a b c e
  · rw [r 206 (by decide)]; exact h6
  · rw [r 221 (by decide), r 222 (by decide)]; exact h7
  · rw [s 90 (by decide), r 221 (by decide), r 222 (by decide), r 206 (by decide)]; exact ⟨g1, g2, g3, g4⟩
  · rw [r 216 (by decide), r 217 (by decide), r 218 (by decide), r 219 (by decide)]; exact ⟨k1, k2⟩
  · rw [r 216 (by decide), r 217 (by decide), r 218 (by decide), r 219 (by decide), x 142 (by decide)]; exact k3
  · rw [x 5 (by decide), x 142 (by decide)]; exact ⟨k4, k5⟩
  · rw [nX_1 (by decide)]; exact k6
  · rw [s 13 (by decide)]; exact k7
theorem dcT1_y [Inhabited gh_] {κ : Int → Int} {pt : sj_ → Option sj_} {a j r : Int} {Lq : sj_ × Int → Option sj_} : (dcT1 κ pt ((a, j), r)).bind (lk9 Lq) = if r = 8 then none else (rgS κ a).bind fun a1 => if κ a1 = 244 then (gS a1).bind fun a2 => Lq ((a2, j), r + 1) else (tS κ 258 a1).bind fun a2 => (pt (a2, j)).bind fun s3 => if isR κ s3.1 then Lq (s3, r + 1) else some s3 := by
  unfold dcT1
  by_cases c : r = 8
  · rw [if_pos c, if_pos c]; rfl
  · rw [if_neg c, if_neg c]
    cases rgS κ a with
    | none => rfl
    | some a1 =>
      simp only [Option.bind_some]
      by_cases c1 : κ a1 = 244
      · rw [if_pos c1, if_pos c1]
        cases gS a1 with
        | none => rfl
        | some a2 => rfl
      · rw [if_neg c1, if_neg c1]
        cases tS κ 258 a1 with
        | none => rfl
        | some a2 =>
          simp only [Option.bind_some]
          cases pt (a2, j) with
          | none => rfl
          | some s3 =>
            simp only [Option.bind_some]
            by_cases c2 : isR κ s3.1
            · rw [if_pos c2, if_pos c2]; rfl
            · rw [if_neg c2, if_neg c2]; rfl
theorem dcT1_u [Inhabited gh_] {κ : Int → Int} {pt : sj_ → Option sj_} (hp : jw_ pt) {a j r : Int} (h0 : 0 ≤ a) (h1 : a ≤ 1200) : LQ (dcT1 κ pt) ((a, j), r) = if r = 8 then none else (rgS κ a).bind fun a1 => if κ a1 = 244 then (gS a1).bind fun a2 => LQ (dcT1 κ pt) ((a2, j), r + 1) else (tS κ 258 a1).bind fun a2 => (pt (a2, j)).bind fun s3 => if isR κ s3.1 then LQ (dcT1 κ pt) (s3, r + 1) else some s3 := (dcT_u hp (s := ((a, j), r)) h0 h1).trans dcT1_y
/-- what the rest of the text is behind a colon -/
def afS (κ : Int → Int) (pt : sj_ → Option sj_) (a j r : Int) : Option sj_ := (pt (a, j)).bind fun s3 => if isR κ s3.1 then LQ (dcT1 κ pt) (s3, r) else some s3
theorem l_161r [Inhabited gh_] {D : Nat} {pt : sj_ → Option sj_} (hpt : jw_ pt) {x1 x2 x3 x4 x5 c0 c1 jj : Int} (hT0 : Tks M0 N0) (hVT0 : VT M0 N0) (hdd : 0 ≤ dd ∧ dd < 14) (hdd2 : dd = N0 6 102 - 1) (h102 : 0 ≤ N0 6 102) (h90 : 0 ≤ N0 6 90 ∧ N0 6 90 ≤ a0) (hl0 : -1 ≤ N0 222 dd ∧ N0 222 dd < N0 6 90) (hc : 0 ≤ N0 220 dd ∧ N0 220 dd < 1300) (hx3 : N0 221 dd = x3 ∧ 0 ≤ x3) (hx1 : b = 1 → N0 223 dd = (if x2 = 2 then -1 else x2) + 1) (hfl : M0 1 7 + 8 * (1201 - a0) ≤ 1000000500 - (gg_ : Int)) (hst : M0 5 3 ≤ 9 * a0 + 900)
    (hV : Cl_ wd0 (Tr_ wd0 pg0 (D + 6)) V (ri_ K) Qt m_161) (hW : Wk_ V)
    (hQ : b = 0 → ∀ Mx', XF M0 Mx' → (∀ (Kv : mm_ → Prop) (Qtq : qt_), (∀ M', SQ Mx' N0 M' → Kv M') → Tr_ wd0 pg0 (dq + 7) 291 [.inr (.inr 6)] N0 (rv_ Kv) Qtq) → Qt 8 Mx') :
    ∀ (m : Nat) (i : Int) (M N : mm_) (a : Int), (m : Int) + (x3 + i) = 8 → BLR b F M0 N0 M N a0 a o dd i → a0 + 2 * i ≤ a
      → (∀ (Kv : mm_ → Prop) (Qtq : qt_), (∀ V : vv_, Cl_ wd0 (Tr_ wd0 pg0 (dq + 6)) V (rv_ Kv) Qtq m_291 → Wk_ V → V 9 [rr 6, ii dd, ii 1, none] [] N) → Tr_ wd0 pg0 (dq + 7) 291 [.inr (.inr 6)] N0 (rv_ Kv) Qtq)
      → (b = 1 → LQ (dcT1 (M0 70) pt) ((a, jj), x3 + i) ≠ none)
      → (∀ M' N' a' i', BLR b F M0 N0 M' N' a0 a' o dd i' → 1 ≤ i' → x3 + i' ≤ 8 → a0 + 2 * i' ≤ a' + 1 → M0 70 a' ≠ 244 → (∀ pt, jw_ pt → LQ (dcT1 (M0 70) pt) ((a, jj), x3 + i) = (tS (M0 70) 258 a').bind (fun a2 => afS (M0 70) pt a2 jj (x3 + i'))) → (b = 1 → (tS (M0 70) 258 a').bind (fun a2 => afS (M0 70) pt a2 jj (x3 + i')) ≠ none)
          → (∀ (Kv : mm_ → Prop) (Qtq : qt_), (∀ V : vv_, Cl_ wd0 (Tr_ wd0 pg0 (dq + 6)) V (rv_ Kv) Qtq m_291 → Wk_ V → Tr_ wd0 pg0 (dq + 6) 244 [.inr (.inr 6), .inl 58] N' (rv_ Kv) Qtq) → Tr_ wd0 pg0 (dq + 7) 291 [.inr (.inr 6)] N0 (rv_ Kv) Qtq)
          → V 87 [rr 1, ii x1, ii x2, ii (x3 + i'), ii x4, ii x5, ii i', ii c0, ii c1, ii 0, none, none, none] [] M')
      → V 87 [rr 1, ii x1, ii x2, ii (x3 + i), ii x4, ii x5, ii i, ii c0, ii c1, ii 1, none, none, none] [] M := by
  intro m
  induction m with
  | zero =>
    intro i M N a hm hB hai pre hS hD
    have hE := hB.1
    have hT : Tks M N := Tks_a (XF_XA hB.2.1) ⟨fun r hr => hB.2.2.2.1.1 r (fun e => hr (by revert e; unfold qaL; simp only [List.mem_cons, List.not_mem_nil, or_false]; (clear hpt hT0 hVT0 hdd hdd2 h102 h90 hl0 hc hx3 hx1 hfl hst hV hW hQ hm hB hai pre hS hD hE hr; lia))), fun j hj => hB.2.2.2.1.2.1 j (nm_i hj (by decide)) (nm_i hj (by decide)) (nm_i hj (by decide)) (nm_i hj (by decide))⟩ hT0
    have qa : QA N0 N := ⟨fun r hr => hB.2.2.2.1.1 r (fun e => hr (by revert e; unfold qaL; simp only [List.mem_cons, List.not_mem_nil, or_false]; (clear hpt hT0 hVT0 hdd hdd2 h102 h90 hl0 hc hx3 hx1 hfl hst hV hW hQ hm hB hai pre hS hD hE hT hr; lia))), fun j hj => hB.2.2.2.1.2.1 j (nm_i hj (by decide)) (nm_i hj (by decide)) (nm_i hj (by decide)) (nm_i hj (by decide))⟩
    have ha := ER_a hE
    have x8 : x3 + i = 8 := by (clear hpt hT0 hVT0 hdd hdd2 h102 h90 hl0 hc hx3 hx1 hfl hst hV hW hQ hB hai pre hS hD hE hT qa ha; lia)
    have hb : b = 0 := by
      rcases bl01 hE with hb | hb
      · exact hb
      · exact absurd (by rw [dcT1_u hpt ha.1 ha.2, if_pos x8]) (hS hb)
    have h221 : N 221 dd = 8 := by rw [hB.2.2.2.2.1.2.1]; (clear hpt hT0 hVT0 hdd hdd2 h102 h90 hl0 hc hx1 hfl hst hV hW hQ hB hai pre hS hD hE hT qa ha x8 hb; omega)
    refine b_161_87 (Tr_mono _) hV hW _ _ _ _ _ _ _ _ _ _ ?_
    rw [if_neg (by decide), if_pos x8]
    have qrun : ∀ (Kv : mm_ → Prop) (Qtq : qt_), Kv (bf_ N (if isR (M 70) a then 2 else 1) (M 71 a)) → Tr_ wd0 pg0 (dq + 7) 291 [.inr (.inr 6)] N0 (rv_ Kv) Qtq := by
      intro Kv Qtq hk
      refine pre _ _ fun V hV hW => b_291_9 (Tr_mono _) hV hW _ _ _ ?_
      rw [if_neg (by decide)]
      refine q_227g (ER_goq hE) ?_
      rw [if_pos rfl]
      obtain ⟨e1, e2, e3, e4, e5, e6⟩ := ER_k hT hE
      refine ⟨e3, j_292 hT hE (fun c => ?_) (fun c => ?_)⟩
      · rw [if_neg (by decide), if_pos h221]
        rw [if_pos c] at hk
        exact ⟨hdd, q_231o (ER_ok hE hb).1 (by rw [e2]; exact rv_i hk)⟩
      · rw [if_pos rfl]
        rw [if_neg c] at hk
        exact q_234o e3 (ER_ok hE hb).1 (by rw [e2]; exact rv_i hk)
    refine y_163 hE (fun c => ?_) (fun c => ?_)
    · rw [if_neg (by decide), hE.2.1]
      refine x_106 (by (clear hpt hT0 hVT0 hdd hdd2 h102 h90 hl0 hc hx3 hx1 hfl hst hV hW hQ hm hB hai pre hS hD hE hT qa x8 hb h221 qrun c; omega)) (by omega) ?_
      rw [if_neg (by decide)]
      rw [if_pos c] at qrun
      exact hQ hb _ (XF_tr hB.2.1 fl_XF) fun Kv Qtq hk9 => qrun _ _ (hk9 _ (SQ_bf hE hb (by decide) qa))
    · rw [if_pos rfl]
      rw [if_neg c] at qrun
      have fin : Qt 8 (flX_ M 1 a) := hQ hb _ (XF_tr hB.2.1 fl_XF) fun Kv Qtq hk9 => qrun _ _ (hk9 _ (SQ_bf hE hb (by decide) qa))
      refine b_161_115 (Tr_mono _) hV hW _ _ _ _ _ _ _ _ _ _ ?_
      split
      · exact x_164w hE c fin
      · exact x_164w hE c fin
  | succ m ih =>
    intro i M N a hm hB hai pre hS hD
    have hE := hB.1
    have qa : QA N0 N := ⟨fun r hr => hB.2.2.2.1.1 r (fun e => hr (by revert e; unfold qaL; simp only [List.mem_cons, List.not_mem_nil, or_false]; (clear hpt hT0 hVT0 hdd hdd2 h102 h90 hl0 hc hx3 hx1 hfl hst hV hW hQ ih hm hB hai pre hS hD hE hr; lia))), fun j hj => hB.2.2.2.1.2.1 j (nm_i hj (by decide)) (nm_i hj (by decide)) (nm_i hj (by decide)) (nm_i hj (by decide))⟩
    have xa := XF_XA hB.2.1
    have hT : Tks M N := Tks_a xa qa hT0
    have hVT : VT M N := VT_a xa qa hVT0
    have ha := ER_a hE
    have h01 := bl01 hE
    have x8 : x3 + i ≠ 8 := by (clear hpt hT0 hVT0 hdd hdd2 h102 h90 hl0 hc hx3 hx1 hfl hst hV hW hQ ih hB hai pre hS hD hE qa xa hT hVT ha h01; omega)
    have m70 : M 70 = M0 70 := XF_70 hB.2.1 (by decide) (by decide) (by decide)
    have m71 : M 71 = M0 71 := XF_70 hB.2.1 (by decide) (by decide) (by decide)
    have h221 : N 221 dd = x3 + i := by rw [hB.2.2.2.2.1.2.1, hx3.1]
    have eS := dcT1_u (κ := M0 70) hpt (j := jj) (r := x3 + i) ha.1 ha.2
    rw [if_neg x8] at eS
    rw [eS] at hS
    have hi0 := hB.2.2.1
    have hfl2 := hB.2.2.2.2.2.2.2.2.1
    refine b_161_87 (Tr_mono _) hV hW _ _ _ _ _ _ _ _ _ _ ?_
    rw [if_neg (by decide), if_neg x8]
    by_cases hR : isR (M 70) a
    rotate_left
    · -- no range
      have hb : b = 0 := by
        rcases h01 with hb | hb
        · exact hb
        · exfalso
          apply hS hb
          have : rgS (M0 70) a = none := by
            rw [m70] at hR
            unfold rgS boS
            unfold isR at hR
            rw [if_neg (by (clear hpt hT0 hVT0 hdd hdd2 h102 h90 hl0 hc hx3 hx1 hfl hst hV hW hQ ih hm hB hai pre hS hD hE qa xa hT hVT ha x8 m70 m71 h221 eS hi0 hfl2 hb; lia)), if_neg (by (clear hpt hT0 hVT0 hdd hdd2 h102 h90 hl0 hc hx3 hx1 hfl hst hV hW hQ ih hm hB hai pre hS hD hE qa xa hT hVT ha x8 m70 m71 h221 eS hi0 hfl2 hb; lia))]
            unfold tS
            rw [if_neg (by (clear hpt hT0 hVT0 hdd hdd2 h102 h90 hl0 hc hx3 hx1 hfl hst hV hW hQ ih hm hB hai pre hS hD hE qa xa hT hVT ha x8 m70 m71 h221 eS hi0 hfl2 hb; lia))]; rfl
          rw [this]; rfl
      refine b_161_115 (Tr_mono _) hV hW _ _ _ _ _ _ _ _ _ _ ?_
      have fin : Qt 8 (flX_ M 1 a) := hQ hb _ (XF_tr hB.2.1 fl_XF) fun Kv Qtq hk9 => pre _ _ fun V hV hW => b_291_9 (Tr_mono _) hV hW _ _ _ (by
        rw [if_neg (by decide)]
        refine q_227g (ER_goq hE) ?_
        rw [if_pos rfl]
        obtain ⟨e1, e2, e3, e4, e5, e6⟩ := ER_k hT hE
        refine ⟨e3, j_292 hT hE (fun c => absurd c hR) (fun c => ?_)⟩
        rw [if_pos rfl]
        exact q_234o e3 (ER_ok hE hb).1 (by rw [e2]; exact rv_i (hk9 _ (SQ_bf hE hb (by decide) qa))))
      split
      · exact x_164w hE hR fin
      · exact x_164w hE hR fin
    -- a range
    have pre1 : ∀ (Kv : mm_ → Prop) (Qtq : qt_), (∀ V : vv_, Cl_ wd0 (Tr_ wd0 pg0 (dq + 6)) V (rv_ Kv) Qtq m_291 → Wk_ V → Tr_ wd0 pg0 (dq + 6) 293 [.inr (.inr 6), .inl dd, .inl (M 71 a)] (up_ N 221 dd (N 221 dd + 1)) (rv_ fun M5 => Tr_ wd0 pg0 (dq + 6) 242 [.inr (.inr 6), .inl 44] M5 (ri_ fun v3 M6 => V 9 [rr 6, ii dd, ii v3, none] [] M6) Qtq) Qtq) → Tr_ wd0 pg0 (dq + 7) 291 [.inr (.inr 6)] N0 (rv_ Kv) Qtq := by
      intro Kv Qtq hq
      refine pre _ _ fun V hV hW => b_291_9 (Tr_mono _) hV hW _ _ _ ?_
      rw [if_neg (by decide)]
      refine q_227g (ER_goq hE) ?_
      rw [if_pos rfl]
      obtain ⟨e1, e2, e3, e4, e5, e6⟩ := ER_k hT hE
      refine ⟨e3, j_292 hT hE (fun c => ?_) (fun c => absurd hR c)⟩
      rw [if_neg (by decide), if_neg (by (clear hpt hT0 hVT0 hdd hdd2 h102 h90 hl0 hc hx3 hx1 hfl hst hQ ih hB hai pre hS hD hE qa xa hT hVT ha h01 x8 m70 m71 eS hi0 hfl2 hR hq hV hW e1 e2 e3 e4 e5 e6 c; lia)), e2, w32_id (by (clear hpt hT0 hVT0 hdd hdd2 h102 h90 hl0 hc hx1 hfl hst hQ ih hB hai pre hS hD hE qa xa hT hVT ha h01 x8 m70 m71 eS hfl2 hR hq hV hW e1 e2 e3 e4 e5 e6 c; omega)) (by (clear hpt hT0 hVT0 hdd hdd2 h102 h90 hl0 hc hx3 hx1 hfl hst hQ ih hB hai pre hS hD hE qa xa hT hVT ha h01 x8 m70 m71 eS hi0 hfl2 hR hq hV hW e1 e2 e3 e4 e5 e6 c; omega))]
      exact ⟨hdd, hdd, hdd, hq V hV hW⟩
    have hE1 : ER b F M (up_ N 221 dd (N 221 dd + 1)) a o := ER_Q hE (by rw [up_ne (by decide)]) (by rw [up_ne (by decide)]) (by rw [up_ne (by decide)]) (by rw [up_ne (by decide)]) (by rw [up_ne (by decide)])
    have qa1 : QA N0 (up_ N 221 dd (N 221 dd + 1)) := QA_tr qa (QA_ur (by decide) (by decide))
    have hT1 : Tks M (up_ N 221 dd (N 221 dd + 1)) := Tks_a xa qa1 hT0
    have hVT1 : VT M (up_ N 221 dd (N 221 dd + 1)) := VT_a xa qa1 hVT0
    have e90 : N 6 90 = N0 6 90 + i := hB.2.2.2.2.1.1
    have e222 : N 222 dd < N0 6 90 + i + 1 := by rw [hB.2.2.2.2.1.2.2.1]; split <;> (clear hpt hT0 hVT0 hdd hdd2 h102 h90 hc hx3 hx1 hfl hst hV hW hQ ih hm hB hai pre hS hD hE qa xa hT hVT ha h01 x8 m70 m71 h221 eS hi0 hfl2 hR pre1 hE1 qa1 hT1 hVT1; omega)
    have e53 : M 5 3 ≤ M0 5 3 + 2 * i := by rw [hB.2.2.2.2.2.2.2.1.1]; split <;> (clear hpt hT0 hVT0 hdd hdd2 h102 h90 hl0 hc hx3 hx1 hfl hst hV hW hQ ih hm hB hai pre hS hD hE qa xa hT hVT ha h01 x8 m70 m71 h221 eS hfl2 hR pre1 hE1 qa1 hT1 hVT1 e90 e222; lia)
    -- behind a range
    have cont : ∀ M2 N2 a2 lo hi, RR b F M (up_ N 221 dd (N 221 dd + 1)) M2 N2 a a2 o dd lo hi → rgS (M 70) a = some a2 → (∀ (Kv : mm_ → Prop) (Qtq : qt_), Kv N2 → Tr_ wd0 pg0 (dq + 5) 293 [.inr (.inr 6), .inl dd, .inl (M 71 a)] (up_ N 221 dd (N 221 dd + 1)) (rv_ Kv) Qtq) → Tr_ wd0 pg0 (D + 6) 117 [.inr (.inr 1), .inl 44] M2 (ri_ fun v1 M3 => (if v1 = 0 then V 87 [rr 1, ii x1, ii x2, ii (w32 (x3 + i + 1)), ii x4, ii x5, ii (w32 (i + 1)), ii c0, ii c1, ii v1, none, none, none] [] M3 else Tr_ wd0 pg0 (D + 6) 105 [.inr (.inr 1)] M3 (rv_ fun M4 => V 87 [rr 1, ii x1, ii x2, ii (w32 (x3 + i + 1)), ii x4, ii x5, ii (w32 (i + 1)), ii c0, ii c1, ii v1, none, none, none] [] M4) Qt)) Qt := by
      intro M2 N2 a2 lo hi hRR hrg hq2
      have hB2 := BLR_1 hB (by (clear hpt hT0 hVT0 hdd hdd2 h102 h90 hl0 hc hx1 hfl hst hV hW hQ ih hB hai pre hS hD hE qa xa hT hVT ha h01 x8 m70 m71 eS hfl2 hR pre1 hE1 qa1 hT1 hVT1 e90 e222 e53 hRR hrg hq2; omega)) (by omega) h90.1 hRR
      have hE2 := hB2.1
      have qa2 : QA N0 N2 := ⟨fun r hr => hB2.2.2.2.1.1 r (fun e => hr (by revert e; unfold qaL; simp only [List.mem_cons, List.not_mem_nil, or_false]; (clear hpt hT0 hVT0 hdd hdd2 h102 h90 hl0 hc hx3 hx1 hfl hst hV hW hQ ih hm hB hai pre hS hD hE qa xa hT hVT ha h01 x8 m70 m71 h221 eS hi0 hfl2 hR pre1 hE1 qa1 hT1 hVT1 e90 e222 e53 hRR hrg hq2 hB2 hE2 hr; lia))), fun j hj => hB2.2.2.2.1.2.1 j (nm_i hj (by decide)) (nm_i hj (by decide)) (nm_i hj (by decide)) (nm_i hj (by decide))⟩
      have xa2 := XF_XA hB2.2.1
      have hT2 : Tks M2 N2 := Tks_a xa2 qa2 hT0
      have n70 : M2 70 = M0 70 := XF_70 hB2.2.1 (by decide) (by decide) (by decide)
      rw [m70] at hrg
      rw [hrg, Option.bind_some] at hS
      have haa := hRR.1
      rw [w32_id (by (clear hpt hT0 hVT0 hdd hdd2 h102 h90 hl0 hc hx1 hfl hst hV hW hQ ih hB hai pre hD hE qa xa hT hVT ha h01 x8 m70 m71 eS hfl2 hR pre1 hE1 qa1 hT1 hVT1 e90 e222 e53 hS hRR hrg hq2 hB2 hE2 qa2 xa2 hT2 n70 haa; lia)) (by (clear hpt hT0 hVT0 hdd hdd2 h102 h90 hl0 hc hx3 hx1 hfl hst hV hW hQ ih hB hai pre hD hE qa xa hT hVT ha h01 x8 m70 m71 eS hi0 hfl2 hR pre1 hE1 qa1 hT1 hVT1 e90 e222 e53 hS hRR hrg hq2 hB2 hE2 qa2 xa2 hT2 n70 haa; omega)), w32_id (by (clear hpt hT0 hVT0 hdd hdd2 h102 h90 hl0 hc hx3 hx1 hfl hst hV hW hQ ih hm hB hai pre hD hE qa xa hT hVT ha h01 x8 m70 m71 h221 eS hfl2 hR pre1 hE1 qa1 hT1 hVT1 e90 e222 e53 hS hRR hrg hq2 hB2 hE2 qa2 xa2 hT2 n70 haa; omega)) (by (clear hpt hT0 hVT0 hdd hdd2 h102 h90 hl0 hc hx3 hx1 hfl hst hV hW hQ ih hm hB hai pre hD hE qa xa hT hVT ha h01 x8 m70 m71 h221 eS hfl2 hR pre1 hE1 qa1 hT1 hVT1 e90 e222 e53 hS hRR hrg hq2 hB2 hE2 qa2 xa2 hT2 n70 haa; lia)), show x3 + i + 1 = x3 + (i + 1) by (clear hpt hT0 hVT0 hdd hdd2 h102 h90 hl0 hc hx3 hx1 hfl hst hV hW hQ ih hm hB hai pre hD hE qa xa hT hVT ha h01 x8 m70 m71 h221 eS hi0 hfl2 hR pre1 hE1 qa1 hT1 hVT1 e90 e222 e53 hS hRR hrg hq2 hB2 hE2 qa2 xa2 hT2 n70 haa; lia)]
      rw [show x3 + i + 1 = x3 + (i + 1) by omega] at hS
      have pre2 : ∀ (Kv : mm_ → Prop) (Qtq : qt_), (∀ V : vv_, Cl_ wd0 (Tr_ wd0 pg0 (dq + 6)) V (rv_ Kv) Qtq m_291 → Wk_ V → Tr_ wd0 pg0 (dq + 6) 242 [.inr (.inr 6), .inl 44] N2 (ri_ fun v3 M6 => V 9 [rr 6, ii dd, ii v3, none] [] M6) Qtq) → Tr_ wd0 pg0 (dq + 7) 291 [.inr (.inr 6)] N0 (rv_ Kv) Qtq := fun Kv Qtq hq => pre1 _ _ fun V hV hW => Tr_le (by (clear hpt hT0 hVT0 hdd hdd2 h102 h90 hl0 hc hx3 hx1 hfl hst hQ ih hm hB hai pre hD hE qa xa hT hVT ha h01 x8 m70 m71 h221 eS hi0 hfl2 hR pre1 hE1 qa1 hT1 hVT1 e90 e222 e53 hS hRR hrg hq2 hB2 hE2 qa2 xa2 hT2 n70 haa hq hV hW; lia)) (hq2 _ _ (hq V hV hW))
      refine y_117 hE2 (by decide) (fun k1 => ?_) (fun k1 => ?_)
      · rw [if_neg (by decide)]
        have k1' : M0 70 a2 = 244 := by rw [← n70]; exact k1
        rw [if_pos k1'] at hS
        refine y_105 hE2 (by rw [n70]; (clear hpt hT0 hVT0 hdd hdd2 h102 h90 hl0 hc hx3 hx1 hfl hst hV hW hQ ih hm hB hai pre hD hE qa xa hT hVT ha h01 x8 m70 m71 h221 eS hi0 hfl2 hR pre1 hE1 qa1 hT1 hVT1 e90 e222 e53 hS hRR hrg hq2 hB2 hE2 qa2 xa2 hT2 n70 haa pre2 k1; lia)) (fun hb => by intro e; have := hS hb; rw [e] at this; exact this rfl) (fun h12 hE3 => ?_) (fun hb h12 => ?_)
        · rw [gS_e h12, Option.bind_some] at hS
          have eQ : ∀ pt, jw_ pt → LQ (dcT1 (M0 70) pt) ((a, jj), x3 + i) = LQ (dcT1 (M0 70) pt) ((a2 + 1, jj), x3 + (i + 1)) := fun pt' hpt' => by
            have eS' := dcT1_u (κ := M0 70) hpt' (j := jj) (r := x3 + i) ha.1 ha.2
            rw [if_neg x8, hrg, Option.bind_some, if_pos k1', gS_e h12, Option.bind_some, show x3 + i + 1 = x3 + (i + 1) by (clear hpt hT0 hVT0 hdd hdd2 h102 h90 hl0 hc hx3 hx1 hfl hst hV hW hQ ih hm hB hai pre hD hE qa xa hT hVT ha h01 x8 m70 m71 h221 eS hi0 hfl2 hR pre1 hE1 qa1 hT1 hVT1 e90 e222 e53 hS hRR hrg hq2 hB2 hE2 qa2 xa2 hT2 n70 haa pre2 k1 k1' h12 hE3 hpt' eS'; lia)] at eS'
            exact eS'
          refine ih (i + 1) (nX_ M2) (nx_ N2) (a2 + 1) (by (clear hpt hT0 hVT0 hdd hdd2 h102 h90 hl0 hc hx3 hx1 hfl hst hV hW hQ ih hB hai pre hD hE qa xa hT hVT ha h01 x8 m70 m71 h221 eS hi0 hfl2 hR pre1 hE1 qa1 hT1 hVT1 e90 e222 e53 hS hRR hrg hq2 hB2 hE2 qa2 xa2 hT2 n70 haa pre2 k1 k1' h12 hE3 eQ; lia)) (BLR_go hB2 hE3) (by (clear hpt hT0 hVT0 hdd hdd2 h102 h90 hl0 hc hx3 hx1 hfl hst hV hW hQ ih hm hB pre hD hE qa xa hT hVT ha h01 x8 m70 m71 h221 eS hi0 hfl2 hR pre1 hE1 qa1 hT1 hVT1 e90 e222 e53 hS hRR hrg hq2 hB2 hE2 qa2 xa2 hT2 n70 pre2 k1 k1' h12 hE3 eQ; lia)) (fun Kv Qtq hq => pre2 _ _ fun V hV hW => j_242t hT2 hE2 (by decide) k1 h12 (hq V hV hW)) hS (fun M' N' a' i' z1 z2 z2' z3 z4 z5 => hD M' N' a' i' z1 z2 z2' z3 z4 (fun pt' hpt' => (eQ pt' hpt').trans (z5 pt' hpt')))
        · have hsp := SQ_bf hE2 hb (k := 2) (by decide) qa2
          exact hQ hb _ (XF_tr hB2.2.1 fl_XF) fun Kv Qtq hk9 => pre2 _ _ fun V hV hW => j_242r hT2 hE2 hb (by decide) k1 h12 (q_291s hV hW hsp.1 (hk9 _ hsp))
      · rw [if_pos rfl]
        have k1' : M0 70 a2 ≠ 244 := by rw [← n70]; exact k1
        rw [if_neg k1'] at hS
        have eQ : ∀ pt, jw_ pt → LQ (dcT1 (M0 70) pt) ((a, jj), x3 + i) = (tS (M0 70) 258 a2).bind (fun a2 => afS (M0 70) pt a2 jj (x3 + (i + 1))) := fun pt' hpt' => by
          have eS' := dcT1_u (κ := M0 70) hpt' (j := jj) (r := x3 + i) ha.1 ha.2
          rw [if_neg x8, hrg, Option.bind_some, if_neg k1', show x3 + i + 1 = x3 + (i + 1) by (clear hpt hT0 hVT0 hdd hdd2 h102 h90 hl0 hc hx3 hx1 hfl hst hV hW hQ ih hm hB hai pre hD hE qa xa hT hVT ha h01 x8 m70 m71 h221 eS hi0 hfl2 hR pre1 hE1 qa1 hT1 hVT1 e90 e222 e53 hS hRR hrg hq2 hB2 hE2 qa2 xa2 hT2 n70 haa pre2 k1 k1' hpt' eS'; lia)] at eS'
          exact eS'
        refine hD M2 N2 a2 (i + 1) hB2 (by omega) (by (clear hpt hT0 hVT0 hdd hdd2 h102 h90 hl0 hc hx3 hx1 hfl hst hV hW hQ ih hB hai pre hD hE qa xa hT hVT ha h01 x8 m70 m71 eS hi0 hfl2 hR pre1 hE1 qa1 hT1 hVT1 e90 e222 e53 hS hRR hrg hq2 hB2 hE2 qa2 xa2 hT2 n70 haa pre2 k1 k1' eQ; omega)) (by (clear hpt hT0 hVT0 hdd hdd2 h102 h90 hl0 hc hx3 hx1 hfl hst hV hW hQ ih hm hB pre hD hE qa xa hT hVT ha h01 x8 m70 m71 h221 eS hi0 hfl2 hR pre1 hE1 qa1 hT1 hVT1 e90 e222 e53 hS hRR hrg hq2 hB2 hE2 qa2 xa2 hT2 n70 pre2 k1 k1' eQ; lia)) k1' eQ hS (fun Kv Qtq hq => pre2 _ _ fun V hV hW => j_242f hT2 hE2 (by decide) k1 (b_291_9 (Tr_mono _) hV hW _ _ _ ?_))
        rw [if_pos rfl]
        exact Tr_rv (hq V hV hW)
    have stop : b = 0 → ∀ Mx', XF M Mx' → (∀ (Kv : mm_ → Prop) (Qtq : qt_), (∀ M', SQ Mx' (up_ N 221 dd (N 221 dd + 1)) M' → Kv M') → Tr_ wd0 pg0 (dq + 5) 293 [.inr (.inr 6), .inl dd, .inl (M 71 a)] (up_ N 221 dd (N 221 dd + 1)) (rv_ Kv) Qtq) → Qt 8 Mx' := fun hb Mx' hx hq => hQ hb Mx' (XF_tr hB.2.1 hx) fun Kv Qtq hk9 => pre1 _ _ fun V hV hW => Tr_le (by (clear hpt hT0 hVT0 hdd hdd2 h102 h90 hl0 hc hx3 hx1 hfl hst hQ ih hm hB hai pre hS hD hE qa xa hT hVT ha h01 x8 m70 m71 h221 eS hi0 hfl2 hR pre1 hE1 qa1 hT1 hVT1 e90 e222 e53 cont hb hx hq hk9 hV hW; lia)) (hq _ _ fun M' hsp => q_242s hsp.1 (by
      have hsp' := SQ_q qa1 hsp
      refine b_291_9 (Tr_mono _) hV hW _ _ _ ?_
      rw [if_pos rfl]
      exact q_244s hsp.1 (rv_i (hk9 _ hsp'))))
    have hSr : b = 1 → rgS (M 70) a ≠ none := fun hb => by rw [m70]; intro e; have := hS hb; rw [e] at this; exact this rfl
    refine b_161_115 (Tr_mono _) hV hW _ _ _ _ _ _ _ _ _ _ ?_
    have q220 : up_ N 221 dd (N 221 dd + 1) 220 dd = N0 220 dd := by rw [up_ne (by decide), hB.2.2.2.1.1 220 (by decide)]
    have q223 : up_ N 221 dd (N 221 dd + 1) 223 dd = N0 223 dd := by rw [up_ne (by decide), hB.2.2.2.1.1 223 (by decide)]
    have q90 : up_ N 221 dd (N 221 dd + 1) 6 90 = N0 6 90 + i := by rw [up_ne (by decide)]; exact e90
    have q222 : up_ N 221 dd (N 221 dd + 1) 222 dd = N 222 dd := by rw [up_ne (by decide)]
    by_cases c2 : x2 = 2
    · rw [if_pos c2]
      rw [if_pos c2] at hx1
      exact y_164 (d := D) (dq := dq) hT1 hVT1 hE1 hSr hdd (by rw [q90]; (clear hpt hT0 hVT0 hdd hdd2 h102 hl0 hc hx3 hx1 hfl hst hV hW hQ ih hm hB pre hS hD hE qa xa hT hVT h01 x8 m70 m71 h221 eS hfl2 hR pre1 hE1 qa1 hT1 hVT1 e222 e53 cont stop hSr q220 q223 q222 c2; lia)) (by rw [q222]; (clear hpt hT0 hVT0 hdd hdd2 h102 hl0 hc hx3 hx1 hfl hst hV hW hQ ih hm hB pre hS hD hE qa xa hT hVT h01 x8 m70 m71 h221 eS hfl2 hR pre1 hE1 qa1 hT1 hVT1 e53 cont stop hSr q220 q223 c2; lia)) (by rw [q220]; exact hc) (fun hb => by rw [q223]; exact hx1 hb) (by (clear hpt hT0 hVT0 hdd hdd2 h102 h90 hl0 hc hx3 hx1 hst hV hW hQ ih hm hB pre hS hD hE qa xa hT hVT ha h01 x8 m70 m71 h221 eS hi0 hR pre1 hE1 qa1 hT1 hVT1 e90 e222 e53 cont stop hSr q220 q223 q90 q222 c2; lia)) (by (clear hpt hT0 hVT0 hdd hdd2 h102 h90 hl0 hc hx3 hx1 hfl hV hW hQ ih hm hB pre hS hD hE qa xa hT hVT ha h01 x8 m70 m71 h221 eS hfl2 hR pre1 hE1 qa1 hT1 hVT1 e90 e222 cont stop hSr q220 q223 q90 q222 c2; omega)) cont stop
    · rw [if_neg c2]
      rw [if_neg c2] at hx1
      exact y_164 (d := D) (dq := dq) hT1 hVT1 hE1 hSr hdd (by rw [q90]; (clear hpt hT0 hVT0 hdd hdd2 h102 hl0 hc hx3 hx1 hfl hst hV hW hQ ih hm hB pre hS hD hE qa xa hT hVT h01 x8 m70 m71 h221 eS hfl2 hR pre1 hE1 qa1 hT1 hVT1 e222 e53 cont stop hSr q220 q223 q222 c2; lia)) (by rw [q222]; (clear hpt hT0 hVT0 hdd hdd2 h102 hl0 hc hx3 hx1 hfl hst hV hW hQ ih hm hB pre hS hD hE qa xa hT hVT h01 x8 m70 m71 h221 eS hfl2 hR pre1 hE1 qa1 hT1 hVT1 e53 cont stop hSr q220 q223 c2; lia)) (by rw [q220]; exact hc) (fun hb => by rw [q223]; exact hx1 hb) (by (clear hpt hT0 hVT0 hdd hdd2 h102 h90 hl0 hc hx3 hx1 hst hV hW hQ ih hm hB pre hS hD hE qa xa hT hVT ha h01 x8 m70 m71 h221 eS hi0 hR pre1 hE1 qa1 hT1 hVT1 e90 e222 e53 cont stop hSr q220 q223 q90 q222 c2; lia)) (by (clear hpt hT0 hVT0 hdd hdd2 h102 h90 hl0 hc hx3 hx1 hfl hV hW hQ ih hm hB pre hS hD hE qa xa hT hVT ha h01 x8 m70 m71 h221 eS hfl2 hR pre1 hE1 qa1 hT1 hVT1 e90 e222 cont stop hSr q220 q223 q90 q222 c2; lia)) cont stop
end BR
end T140_br
section T141_ds
/-! what is known of a decide between its parts -/
def HOL (M N : mm_) (px : Int → Int) (k0 kc : Int) : Nat → Int → Int → Prop
  | 0, g, h => g = -1 ∧ h = -1
  | m + 1, g, h => (k0 < g ∧ g < kc) ∧ h = px g + 1 ∧ N 203 g = 7 ∧ M 142 (px g) = 38 ∧ (N 206 g < g ∧ M 142 h + 2 ≤ h) ∧ HOL M N px k0 kc m (N 206 g) (M 142 h)
def INH (N : mm_) : Nat → Int → Int → Prop
  | 0, _, _ => False
  | m + 1, g, k => k = g ∨ INH N m (N 206 g) k
/-- M1 is M but for what stands in the holes -/
def AGH (M N M1 : mm_) (px : Int → Int) (lo hi : Int) (mm : Nat) (g : Int) : Prop := ∀ i, lo ≤ i → i < hi → (∀ k, INH N mm g k → i ≠ px k + 1) → M1 142 i = M 142 i
def DSEM (Mx Mq M N : mm_) (T x4 x5 : Int) (mm : Nat) : Prop := ∃ (px : Int → Int) (L : pl_) (c1 t : Int),
  (∀ k, Mq 6 75 < k → k < N 6 75 → Mx 5 3 ≤ px k ∧ px k + 2 ≤ M 5 3) ∧ (∀ k, L k → Mq 6 75 < k ∧ k < N 6 75) ∧ ((t = 1 ∨ t = 2) ∧ Mx 5 3 ≤ c1 ∧ c1 ≤ M 5 3 ∧ N 203 (Mq 6 75) = 6)
  ∧ (∀ M1, AGH M N M1 px (Mx 5 3) (M 5 3) mm (N 224 (Mq 6 102)) →
      (M1 142 (Mx 5 3) = 30 ∧ M1 142 (Mx 5 3 + 1) = N 204 (Mq 6 75) ∧ EXP M1 N T (Mx 5 3 + 2) c1 (N 205 (Mq 6 75)) (N 6 104) t)
      ∧ ((c1 = M 5 3 ∧ N 222 (Mq 6 102) = -1) ∨ (∃ m, CHP M1 N px L (Mx 5 3) (M 5 3) (Mq 6 90) (N 6 90) (Mq 6 75) (N 6 75 - 1) m c1 (N 206 (Mq 6 75)) (M 5 3) (N 222 (Mq 6 102)) ∧ N 219 (N 222 (Mq 6 102)) = -1))
      ∧ (∀ k, Mq 6 75 < k → k < N 6 75 → INH N mm (N 224 (Mq 6 102)) k ∨ ∃ ra rb, (Mq 6 90 ≤ ra ∧ rb ≤ N 6 90) ∧ (rb ≤ N 222 (Mq 6 102) ∨ N 222 (Mq 6 102) < ra) ∧ OPX M1 N px L T (Mx 5 3) (M 5 3) ra rb (N 6 75 - 1) (N 6 104) k ∧ k < N 6 75 - 1))
  ∧ HOL M N px (Mq 6 75) (N 6 75) mm (N 224 (Mq 6 102)) x4 ∧ (x5 = 1 → ∀ k, INH N mm (N 224 (Mq 6 102)) k → ¬ L k)
  ∧ (∀ l, Mx 1 19 ≤ l → l < M 1 19 → M 129 (10 * T + l) = px (N 188 (10 * T + l)) ∧ L (N 188 (10 * T + l)))
  ∧ SBS Mx M N (Mq 6 75) (N 6 75)
section DS
variable {Mx Mq M N M4 N4 : mm_} {px px' : Int → Int} {k0 kc kc' x4 x5 T : Int}
theorem INH_c [Inhabited gh_] : ∀ (m : Nat) {g k : Int}, HOL M N px k0 kc m g x4 → (∀ i, k0 < i → i < kc → N4 206 i = N 206 i) → (INH N4 m g k ↔ INH N m g k) := by
  intro m
  induction m generalizing x4 with
  | zero => intro g k _ _; exact Iff.rfl
  | succ m ih =>
    intro g k h hn
    unfold INH
    rw [hn g h.1.1 h.1.2, ih h.2.2.2.2.2 hn]
theorem INH_b [Inhabited gh_] : ∀ (m : Nat) {g k x4 : Int}, HOL M N px k0 kc m g x4 → INH N m g k → k0 < k ∧ k < kc
  | 0, _, _, _, _, h => h.elim
  | m + 1, g, k, x4, h, hi => by
    rcases hi with e | e
    · rw [e]; exact h.1
    · exact INH_b m h.2.2.2.2.2 e
theorem HOL_c [Inhabited gh_] {cs : Int} : ∀ (m : Nat) {g h : Int}, HOL M N px k0 kc m g h → kc ≤ kc' → (∀ i, k0 < i → i < kc → N4 203 i = N 203 i ∧ N4 206 i = N 206 i ∧ px' i = px i ∧ (0 ≤ px i ∧ px i + 2 ≤ cs)) → (∀ i, 0 ≤ i → i < cs → M4 142 i = M 142 i) → HOL M4 N4 px' k0 kc' m g h
  | 0, _, _, h, _, _, _ => h
  | m + 1, g, h, ⟨h1, h2, h3, h4, h5, h6⟩, hk, hn, hx => by
    have q := hn g h1.1 h1.2
    refine ⟨by omega, by rw [q.2.2.1]; exact h2, by rw [q.1]; exact h3, by rw [q.2.2.1, hx _ (by omega) (by (clear h1 h2 h3 h4 h5 h6 hk hn hx; omega))]; exact h4, by rw [q.2.1, hx h (by omega) (by omega)]; exact h5, ?_⟩
    rw [q.2.1, hx h (by omega) (by omega)]
    exact HOL_c m h6 hk hn hx
/-- a part more -/
theorem DS_1 [Inhabited gh_] {i ke ce v : Int} {mm : Nat} (h : DSEM Mx Mq M N T x4 x5 mm) (hx5 : x5 = 0 ∨ x5 = 1) (h90 : 0 ≤ Mq 6 90 ∧ Mq 6 90 ≤ N 6 90) (h53 : 0 ≤ Mx 5 3) (h75 : 0 ≤ Mq 6 75 ∧ Mq 6 75 < N 6 75) (hl : N 222 (Mq 6 102) < N 6 90) (hl0 : -1 ≤ N 222 (Mq 6 102)) (hi : 1 ≤ i) (hv : v = 0 ∨ v = 1) (h104 : 0 ≤ N 6 104 ∧ N 6 104 ≤ N4 6 104) (h19 : Mx 1 19 ≤ M 1 19 ∧ M 1 19 ≤ M4 1 19) (hke : N 6 75 ≤ ke) (hr : N 6 90 + i ≤ N4 6 90)
    (ox : ∀ j, 0 ≤ j → j < M 5 3 → M4 142 j = M 142 j) (oo : ∀ r j, r ∈ opL → 0 ≤ j → j < N 6 75 → (j ≠ Mq 6 75 ∨ r ≠ 206) → N4 r j = N r j) (ok0 : N4 206 (Mq 6 75) = if N 222 (Mq 6 102) < 0 then N 6 90 else N 206 (Mq 6 75))
    (o9 : ∀ j, 0 ≤ j → j < 3 * N 6 75 → N4 209 j = N 209 j) (of : ∀ j, 0 ≤ j → j < N 6 104 → N4 227 j = N 227 j ∧ N4 228 j = N 228 j) (ot : tc_ T N N4)
    (org : ∀ j, 0 ≤ j → j < N 6 90 → N4 216 j = N 216 j ∧ N4 217 j = N 217 j ∧ N4 218 j = N 218 j ∧ (j ≠ N 222 (Mq 6 102) → N4 219 j = N 219 j)) (orl : 0 ≤ N 222 (Mq 6 102) → N4 219 (N 222 (Mq 6 102)) = N 6 90)
    (olb : ∀ l, Mx 1 19 ≤ l → l < M 1 19 → M4 129 (10 * T + l) = M 129 (10 * T + l) ∧ N4 188 (10 * T + l) = N 188 (10 * T + l))
    (sg : SEG M4 N4 T (N 6 75) ke (M 5 3 + 2 * i + 3) ce (N 6 90 + i) (N4 6 90) (N4 6 104) (M 1 19) (M4 1 19) v)
    (n43 : M4 142 (M 5 3) = 43) (nct : M4 142 (M 5 3 + 1) = i) (nrg : RGL M4 N4 (N 6 75) (Mq 6 90) (N4 6 90) (i - 1).toNat (M 5 3 + 2) (N 6 90) (N 6 90 + i - 1)) (nsk : M4 142 (M 5 3 + 2 * i + 2) = ce + 2) (nl : N4 222 (Mq 6 102) = N 6 90 + i - 1) (nl1 : N4 219 (N 6 90 + i - 1) = -1)
    (n7 : N4 203 ke = 7) (nB : N4 206 ke = N 224 (Mq 6 102)) (nJ : N4 224 (Mq 6 102) = ke) (n38 : M4 142 ce = 38) (nh : M4 142 (ce + 1) = x4) (nk : N4 6 75 = ke + 1) (nc : M4 5 3 = ce + 2)
    (hsb : SBS M M4 N4 (N 6 75) (ke + 1)) : DSEM Mx Mq M4 N4 T (ce + 1) (if x5 = 0 ∨ v = 0 then 0 else 1) (mm + 1) := by
  obtain ⟨px, L, c1, t, pb, lb, ⟨g3, g6, g5, g7⟩, hall, ho, he, lab, sb⟩ := h
  have sv := SEG_v sg hke
  obtain ⟨py, P, ⟨y0, y1, y2⟩, ⟨p0, p1, p2⟩, yo, yl⟩ := sg
  have cc : M 5 3 + 2 * i + 3 ≤ ce := sv.1
  have cs0 : 0 ≤ M 5 3 := by (clear hx5 h90 h75 hl hl0 hi hv h104 h19 hke hr ox oo ok0 o9 of ot org orl olb n43 nrg nsk nl nl1 n7 nB nJ n38 nh nk nc hsb pb lb g3 g7 hall ho he lab sb sv y1 y2 p0 p1 p2 yo yl cc; lia)
  -- the new px
  have ex : ∀ k, k < N 6 75 → (fun k => if k < N 6 75 then px k else py k) k = px k := fun k hk => if_pos hk
  have ey : ∀ k, N 6 75 ≤ k → (fun k => if k < N 6 75 then px k else py k) k = py k := fun k hk => if_neg (by (clear hx5 h90 h53 h75 hl hl0 hi hv h104 h19 hke hr ox oo ok0 o9 of ot org orl olb n43 nct nrg nsk nl nl1 n7 nB nJ n38 nh nk nc hsb pb lb g3 g6 g5 g7 hall ho he lab sb sv y0 y1 y2 p0 p1 p2 yo yl cc cs0 ex; lia))
  have o3 : ∀ j, 0 ≤ j → j < N 6 75 → N4 203 j = N 203 j := fun j a b => oo 203 j (by decide) a b (.inr (by decide))
  have o6 : ∀ j, Mq 6 75 < j → j < N 6 75 → N4 206 j = N 206 j := fun j a b => oo 206 j (by decide) (by (clear hx5 h90 h53 hl hl0 hi hv h104 h19 hke hr ox oo ok0 o9 of ot org orl olb n43 nct nrg nsk nl nl1 n7 nB nJ n38 nh nk nc hsb pb lb g3 g6 g5 g7 hall ho he lab sb sv y0 y1 y2 p0 p1 p2 yo yl cc cs0 ex ey o3 b; omega)) b (.inl (by (clear hx5 h90 h53 h75 hl hl0 hi hv h104 h19 hke hr ox oo ok0 o9 of ot org orl olb n43 nct nrg nsk nl nl1 n7 nB nJ n38 nh nk nc hsb pb lb g3 g6 g5 g7 hall ho he lab sb sv y0 y1 y2 p0 p1 p2 yo yl cc cs0 ex ey o3 b; omega)))
  have yke : (fun k => if k < N 6 75 then px k else py k) ke = ce := by rw [ey ke hke, y1]
  have inh4 : ∀ k, INH N4 (mm + 1) (N4 224 (Mq 6 102)) k ↔ k = ke ∨ INH N mm (N 224 (Mq 6 102)) k := fun k => by
    rw [nJ]
    show k = ke ∨ INH N4 mm (N4 206 ke) k ↔ _
    rw [nB, INH_c mm ho o6]
  refine ⟨fun k => if k < N 6 75 then px k else py k, fun k => L k ∨ P k, c1, t, fun k a b => ?_, fun k h => ?_, ⟨g3, g6, by (clear hx5 h90 h53 h75 hl hl0 hv h104 h19 hke hr ox oo ok0 o9 of ot org orl olb n43 nrg nsk nl nl1 n7 nB nJ n38 nh nk hsb pb lb g3 g6 g7 hall ho he lab sb y2 p0 p1 p2 yo yl cc cs0 ex ey o3 o6 inh4; lia), ?_⟩, fun M1 hA => ?_, ?_, fun e k hk hL => ?_, fun l a b => ?_, ?_⟩
  · by_cases c : k < N 6 75
    · have := pb k a c
      show Mx 5 3 ≤ (if k < N 6 75 then px k else py k) ∧ (if k < N 6 75 then px k else py k) + 2 ≤ M4 5 3
      rw [if_pos c]; (clear hx5 h90 h53 h75 hl hl0 hv h104 h19 hke hr ox oo ok0 o9 of ot org orl olb n43 nrg nsk nl nl1 n7 nB nJ n38 nh nk hsb pb lb g3 g6 g5 g7 hall ho he lab sb y2 p0 p1 p2 yo yl cc cs0 ex ey o3 o6 inh4 a b c; omega)
    · have := y2 k (by (clear hx5 h90 h53 h75 hl hl0 hi hv h104 h19 hke hr ox oo ok0 o9 of ot org orl olb n43 nct nrg nsk nl nl1 n7 nB nJ n38 nh nk nc hsb pb lb g3 g6 g5 g7 hall ho he lab sb sv y0 y1 y2 p0 p1 p2 yo yl cc cs0 ex ey o3 o6 yke inh4 a b; omega)) (by (clear hx5 h90 h53 h75 hl hl0 hi hv h104 h19 hke hr ox oo ok0 o9 of ot org orl olb n43 nct nrg nsk nl nl1 n7 nB n38 nh nc hsb pb lb g3 g6 g5 g7 hall ho he lab sb sv y0 y1 y2 p0 p1 p2 yo yl cc cs0 ex ey o3 o6 yke inh4 a c; omega))
      show Mx 5 3 ≤ (if k < N 6 75 then px k else py k) ∧ (if k < N 6 75 then px k else py k) + 2 ≤ M4 5 3
      rw [if_neg c]; (clear hx5 h90 h53 h75 hl hl0 hv h104 h19 hke hr ox oo ok0 o9 of ot org orl olb n43 nrg nsk nl nl1 n7 nB nJ n38 nh nk hsb pb lb g3 g7 hall ho he lab sb sv y2 p0 p1 p2 yo yl cc cs0 ex ey o3 o6 inh4 a b c; lia)
  · rcases h with h | h
    · have := lb k h; (clear hx5 h90 h53 h75 hl hl0 hi hv h104 h19 hr ox oo ok0 o9 of ot org orl olb n43 nct nrg nsk nl nl1 n7 nB n38 nh nc hsb pb lb g3 g6 g5 g7 hall ho he lab sb sv y0 y1 y2 p0 p1 p2 yo yl cc cs0 ex ey o3 o6 yke inh4 h; omega)
    · have := p1 k h; (clear hx5 h90 h53 hl hl0 hi hv h104 h19 hke hr ox oo ok0 o9 of ot org orl olb n43 nct nrg nsk nl nl1 n7 nB n38 nh nc hsb pb lb g3 g6 g5 g7 hall ho he lab sb sv y0 y1 y2 p0 p1 p2 yo yl cc cs0 ex ey o3 o6 yke inh4 h; omega)
  · rw [o3 _ h75.1 h75.2]; exact g7
  · have hA1 : AGH M N M1 px (Mx 5 3) (M 5 3) mm (N 224 (Mq 6 102)) := fun j a b hn => by
      rw [hA j a (by (clear hx5 h90 h53 h75 hl hl0 hv h104 h19 hke hr ox oo ok0 o9 of ot org orl olb n43 nrg nsk nl nl1 n7 nB nJ n38 nh nk hsb pb lb g3 g6 g5 g7 hall ho he lab sb y2 p0 p1 p2 yo yl cc cs0 ex ey o3 o6 inh4 hA a hn; lia)) (fun k hk => ?_)]
      · exact ox j (by (clear hx5 h90 h75 hl hl0 hi hv h104 h19 hke hr ox oo ok0 o9 of ot org orl olb n43 nct nrg nsk nl nl1 n7 nB nJ n38 nh nk nc hsb pb lb g3 g6 g5 g7 hall ho he lab sb sv y0 y1 y2 p0 p1 p2 yo yl cc cs0 ex ey o3 o6 yke inh4 hA b hn; lia)) b
      · rcases (inh4 k).mp hk with e | e
        · rw [e, yke]; (clear hx5 h90 h53 h75 hl hl0 hv h104 h19 hke hr ox oo ok0 o9 of ot org orl olb n43 nrg nsk nl nl1 n7 nB nJ n38 nh nk hsb pb lb g3 g6 g5 g7 hall ho he lab sb y2 p0 p1 p2 yo yl cc cs0 ex ey o3 o6 inh4 hA a hn hk e; lia)
        · rw [ex k (INH_b mm ho e).2]; exact hn k e
    have hN : ∀ j, M 5 3 ≤ j → j < ce + 2 → j ≠ ce + 1 → M1 142 j = M4 142 j := fun j a b c => hA j (by (clear hx5 h90 h53 h75 hl hl0 hi hv h104 h19 hke hr ox oo ok0 o9 of ot org orl olb n43 nrg nsk nl nl1 n7 nB nJ n38 nh nk nc hsb pb lb g3 g7 hall ho he lab sb sv y1 y2 p0 p1 p2 yo yl cc cs0 ex ey o3 o6 yke inh4 hA hA1 b c; lia)) (by (clear hx5 h90 h53 h75 hl hl0 hi hv h104 h19 hke hr ox oo ok0 o9 of ot org orl olb n43 nct nrg nsk nl nl1 n7 nB nJ n38 nh nk hsb pb lb g3 g6 g5 g7 hall ho he lab sb sv y0 y2 p0 p1 p2 yo yl cc cs0 ex ey o3 o6 inh4 hA hA1 a c; omega)) (fun k hk => by
      rcases (inh4 k).mp hk with e | e
      · rw [e, yke]; exact c
      · have q := INH_b mm ho e
        have := pb k q.1 q.2
        rw [ex k q.2]; (clear hx5 h90 h53 h75 hl hl0 hi hv h104 h19 hke hr ox oo ok0 o9 of ot org orl olb n43 nrg nsk nl nl1 n7 nB nJ n38 nh nk nc hsb pb lb g3 g6 g5 g7 hall ho he lab sb sv y1 y2 p0 p1 p2 yo yl cc cs0 ex ey o3 o6 yke inh4 hA hA1 b c hk e q; omega))
    obtain ⟨⟨g1, g2, g4⟩, ch, op⟩ := hall M1 hA1
    refine ⟨⟨g1, ?_, ?_⟩, .inr ?_, fun k a b => ?_⟩
    · rw [oo 204 _ (by decide) h75.1 h75.2 (.inr (by decide))]; exact g2
    · rw [oo 205 _ (by decide) h75.1 h75.2 (.inr (by decide))]
      exact EXP_c g4 (fun j a b => rfl) (fun j a b => of j (by have := EXP_le g4; (clear hx5 h90 h53 h75 hl hl0 hi hv h104 h19 hke hr ox oo ok0 o9 of ot org orl olb n43 nct nrg nsk nl nl1 n7 nB nJ n38 nh nk nc hsb pb lb g3 g6 g5 g7 hall ho he lab sb sv y0 y1 y2 p0 p1 p2 yo yl cc cs0 ex ey o3 o6 yke inh4 hA hA1 hN g1 g2 g4 ch op b; omega)) b) ot.1 h104.2
    · -- the chain
      have pt : PT1 M1 N4 (fun k => if k < N 6 75 then px k else py k) (fun k => L k ∨ P k) (Mx 5 3) (M4 5 3) (Mq 6 90) (N4 6 90) (Mq 6 75) (N4 6 75 - 1) (M 5 3) (N 6 90) (ce + 2) (N 6 90 + i - 1) := by
        refine ⟨(i - 1).toNat, N 6 75, ?_, ?_, ?_, ?_, ?_, ?_, .inr p0, ?_⟩
        · constructor <;> (clear hx5 h90 h53 h75 hl hl0 hv h104 h19 hke hr ox oo ok0 o9 of ot org orl olb n43 nrg nsk nl nl1 n7 nB nJ n38 nh nk hsb pb lb g3 g7 hall ho he lab sb y2 p0 p1 p2 yo yl cc cs0 ex ey o3 o6 inh4 hA hA1 hN g1 g2 g4 ch op; lia)
        · rw [hN _ (by (clear hx5 h90 h53 h75 hl hl0 hi hv h104 h19 hke hr ox oo ok0 o9 of ot org orl olb n43 nct nrg nsk nl nl1 n7 nB nJ n38 nh nk nc hsb pb lb g3 g6 g5 g7 hall ho he lab sb sv y0 y1 y2 p0 p1 p2 yo yl cc cs0 ex ey o3 o6 yke inh4 hA hA1 hN g1 g2 g4 ch op; lia)) (by (clear hx5 h90 h53 h75 hl hl0 hv h104 h19 hke hr ox oo ok0 o9 of ot org orl olb n43 nrg nsk nl nl1 n7 nB nJ n38 nh nk hsb pb lb g3 g6 g5 g7 hall ho he lab sb y2 p0 p1 p2 yo yl cc cs0 ex ey o3 o6 inh4 hA hA1 hN g1 g2 g4 ch op; omega)) (by (clear hx5 h90 h53 h75 hl hl0 hv h104 h19 hke hr ox oo ok0 o9 of ot org orl olb n43 nrg nsk nl nl1 n7 nB nJ n38 nh nk hsb pb lb g3 g6 g5 g7 hall ho he lab sb y2 p0 p1 p2 yo yl cc cs0 ex ey o3 o6 inh4 hA hA1 hN g1 g2 g4 ch op; lia))]; exact n43
        · rw [hN _ (by (clear hx5 h90 h53 h75 hl hl0 hi hv h104 h19 hke hr ox oo ok0 o9 of ot org orl olb n43 nct nrg nsk nl nl1 n7 nB nJ n38 nh nk nc hsb pb lb g3 g6 g5 g7 hall ho he lab sb sv y0 y1 y2 p0 p1 p2 yo yl cc cs0 ex ey o3 o6 yke inh4 hA hA1 hN g1 g2 g4 ch op; lia)) (by (clear hx5 h90 h53 h75 hl hl0 hv h104 h19 hke hr ox oo ok0 o9 of ot org orl olb n43 nrg nsk nl nl1 n7 nB nJ n38 nh nk hsb pb lb g3 g6 g5 g7 hall ho he lab sb y2 p0 p1 p2 yo yl cc cs0 ex ey o3 o6 inh4 hA hA1 hN g1 g2 g4 ch op; lia)) (by (clear hx5 h90 h53 h75 hl hl0 hv h104 h19 hke hr ox oo ok0 o9 of ot org orl olb n43 nrg nsk nl nl1 n7 nB nJ n38 nh nk hsb pb lb g3 g6 g5 g7 hall ho he lab sb y2 p0 p1 p2 yo yl cc cs0 ex ey o3 o6 inh4 hA hA1 hN g1 g2 g4 ch op; omega)), nct]; (clear hx5 h90 h53 h75 hl hl0 hv h104 h19 hke hr ox oo ok0 o9 of ot org orl olb n43 nrg nsk nl nl1 n7 nB nJ n38 nh nk nc hsb pb lb g3 g6 g5 g7 hall ho he lab sb sv y0 y1 y2 p0 p1 p2 yo yl cc cs0 ex ey o3 o6 yke inh4 hA hA1 hN g1 g2 g4 ch op; lia)
        · exact RGL_c (Int.le_refl _) (Int.le_refl _) _ nrg (fun j a b => hN j (by (clear hx5 h90 h53 h75 hl hl0 hi hv h104 h19 hke hr ox oo ok0 o9 of ot org orl olb n43 nrg nsk nl nl1 n7 nB nJ n38 nh nk nc hsb pb lb g3 g6 g5 g7 hall ho he lab sb sv y1 y2 p0 p1 p2 yo yl cc cs0 ex ey o3 o6 yke inh4 hA hA1 hN g1 g2 g4 ch op b; omega)) (by (clear hx5 h90 h53 h75 hl hl0 hv h104 h19 hke hr ox oo ok0 o9 of ot org orl olb n43 nrg nsk nl nl1 n7 nB nJ n38 nh nk hsb pb lb g3 g6 g5 g7 hall ho he lab sb y2 p0 p1 p2 yo yl cc cs0 ex ey o3 o6 inh4 hA hA1 hN g1 g2 g4 ch op a; lia)) (by (clear hx5 h90 h53 h75 hl hl0 hv h104 h19 hke hr ox oo ok0 o9 of ot org orl olb n43 nrg nsk nl nl1 n7 nB nJ n38 nh nk hsb pb lb g3 g6 g5 g7 hall ho he lab sb y2 p0 p1 p2 yo yl cc cs0 ex ey o3 o6 inh4 hA hA1 hN g1 g2 g4 ch op a; lia))) (fun _ _ _ => ⟨rfl, rfl, rfl⟩) (fun _ _ _ => rfl)
        · rw [ey _ (by omega), y0]; (clear hx5 h90 h53 h75 hl hl0 hv h104 h19 hke hr ox oo ok0 o9 of ot org orl olb n43 nrg nsk nl nl1 n7 nB nJ n38 nh nk nc hsb pb lb g3 g6 g5 g7 hall ho he lab sb sv y0 y1 y2 p0 p1 p2 yo yl cc cs0 ex ey o3 o6 yke inh4 hA hA1 hN g1 g2 g4 ch op; lia)
        · (clear hx5 h90 h53 hl hl0 hi hv h104 h19 hr ox oo ok0 o9 of ot org orl olb n43 nct nrg nsk nl nl1 n7 nB n38 nh nc hsb pb lb g3 g6 g5 g7 hall ho he lab sb sv y0 y1 y2 p0 p1 p2 yo yl cc cs0 ex ey o3 o6 yke inh4 hA hA1 hN g1 g2 g4 ch op; omega)
        · rw [hN _ (by (clear hx5 h90 h53 h75 hl hl0 hi hv h104 h19 hke hr ox oo ok0 o9 of ot org orl olb n43 nrg nsk nl nl1 n7 nB nJ n38 nh nk nc hsb pb lb g3 g6 g5 g7 hall ho he lab sb sv y0 y1 y2 p0 p1 p2 yo yl cc cs0 ex ey o3 o6 yke inh4 hA hA1 hN g1 g2 g4 ch op; lia)) (by (clear hx5 h90 h53 h75 hl hl0 hv h104 h19 hke hr ox oo ok0 o9 of ot org orl olb n43 nrg nsk nl nl1 n7 nB nJ n38 nh nk hsb pb lb g3 g6 g5 g7 hall ho he lab sb y2 p0 p1 p2 yo yl cc cs0 ex ey o3 o6 inh4 hA hA1 hN g1 g2 g4 ch op; lia)) (by (clear hx5 h90 h53 h75 hl hl0 hv h104 h19 hke hr ox oo ok0 o9 of ot org orl olb n43 nrg nsk nl nl1 n7 nB nJ n38 nh nk hsb pb lb g3 g6 g5 g7 hall ho he lab sb y2 p0 p1 p2 yo yl cc cs0 ex ey o3 o6 inh4 hA hA1 hN g1 g2 g4 ch op; omega)), show M 5 3 + 2 * (((i - 1).toNat : Nat) : Int) + 4 = M 5 3 + 2 * i + 2 by (clear hx5 h90 h53 h75 hl hl0 hv h104 h19 hke hr ox oo ok0 o9 of ot org orl olb n43 nrg nsk nl nl1 n7 nB nJ n38 nh nk nc hsb pb lb g3 g6 g5 g7 hall ho he lab sb sv y0 y1 y2 p0 p1 p2 yo yl cc cs0 ex ey o3 o6 yke inh4 hA hA1 hN g1 g2 g4 ch op; lia)]; exact nsk
      rcases ch with ⟨e1, e2⟩ | ⟨m, e1, e2⟩
      · refine ⟨0, ?_, by rw [nl]; exact nl1⟩
        rw [nl, e1, ok0, if_pos (by (clear hx5 h90 h53 h75 hl hl0 hi hv h104 h19 hke hr ox oo ok0 o9 of ot org orl olb n43 nct nrg nsk nl nl1 n7 nB nJ n38 nh nk nc hsb pb lb g3 g6 g5 g7 hall ho he lab sb sv y0 y1 y2 p0 p1 p2 yo yl cc cs0 ex ey o3 o6 yke inh4 hA hA1 hN g1 g2 g4 op pt e1; lia)), nc]; rw [nc] at pt; exact pt
      · have le := CHP_le m e1
        refine ⟨m + 1, ?_, by rw [nl]; exact nl1⟩
        have e0 : 0 ≤ N 222 (Mq 6 102) := by (clear hx5 h53 h75 hl hi hv h104 h19 hke hr ox oo ok0 o9 of ot org orl olb n43 nct nrg nsk nl nl1 n7 nB nJ n38 nh nk nc hsb pb lb g3 g6 g5 g7 hall ho he lab sb sv y0 y1 y2 p0 p1 p2 yo yl cc cs0 ex ey o3 o6 yke inh4 hA hA1 hN g1 g2 g4 op pt e1 e2; omega)
        rw [nl, ok0, if_neg (by (clear hx5 h90 h53 h75 hl hl0 hi hv h104 h19 hke hr ox oo ok0 o9 of ot org orl olb n43 nct nrg nsk nl nl1 n7 nB nJ n38 nh nk nc hsb pb lb g3 g6 g5 g7 hall ho he lab sb sv y0 y1 y2 p0 p1 p2 yo yl cc cs0 ex ey o3 o6 yke inh4 hA hA1 hN g1 g2 g4 op pt e1 e2 le; lia)), nc]
        rw [nc] at pt
        have c1' := CHP_c (Mx' := M1) (Mq' := N4) (px' := fun k => if k < N 6 75 then px k else py k) (L' := fun k => L k ∨ P k) (lo' := Mx 5 3) (hi' := ce + 2) (r0' := Mq 6 90) (r1' := N4 6 90) (k1' := N4 6 75 - 1) (Int.le_refl _) (by (clear hx5 h90 h53 h75 hl hl0 hv h104 h19 hke hr ox oo ok0 o9 of ot org orl olb n43 nrg nsk nl nl1 n7 nB nJ n38 nh nk hsb pb lb g3 g6 g5 g7 hall ho he lab sb y2 p0 p1 p2 yo yl cc cs0 ex ey o3 o6 inh4 hA hA1 hN g1 g2 g4 op pt e1 e2 le e0; lia)) (Int.le_refl _) (by (clear hx5 h90 h53 h75 hl hl0 hv h104 h19 hke ox oo ok0 o9 of ot org orl olb n43 nrg nsk nl1 n7 nB nJ n38 nh nk nc hsb pb lb g3 g6 g5 g7 hall ho he lab sb sv y0 y1 y2 p0 p1 p2 yo yl cc cs0 ex ey o3 o6 yke inh4 hA hA1 hN g1 g2 g4 op pt e1 e2 le e0; lia)) (by (clear hx5 h90 h53 h75 hl hl0 hi hv h104 h19 hr ox oo ok0 o9 of ot org orl olb n43 nct nrg nsk nl nl1 n7 nB n38 nh nc hsb pb lb g3 g6 g5 g7 hall ho he lab sb sv y0 y1 y2 p0 p1 p2 yo yl cc cs0 ex ey o3 o6 yke inh4 hA hA1 hN g1 g2 g4 op pt e1 e2 le e0; omega)) (fun k a b => ex k (by (clear hx5 h90 h53 h75 hl hl0 hi hv h104 h19 hke hr ox oo ok0 o9 of ot org orl olb n43 nct nrg nsk nl nl1 n7 nB nJ n38 nh nk nc hsb pb lb g3 g6 g5 g7 hall ho he lab sb sv y0 y1 y2 p0 p1 p2 yo yl cc cs0 ex ey o3 o6 yke inh4 hA hA1 hN g1 g2 g4 op pt e1 e2 le e0 a; omega))) (fun k h => .inl h) (fun j a b => rfl) m e1 (fun j a b => by have := org j (by (clear hx5 h53 h75 hl hl0 hi hv h104 h19 hke hr ox oo ok0 o9 of ot org orl olb n43 nct nrg nsk nl nl1 n7 nB nJ n38 nh nk nc hsb pb lb g3 g6 g5 g7 hall ho he lab sb sv y0 y1 y2 p0 p1 p2 yo yl cc cs0 ex ey o3 o6 yke inh4 hA hA1 hN g1 g2 g4 op pt e1 e2 e0 b; omega)) (by (clear hx5 h90 h53 h75 hl0 hi hv h104 h19 hke hr ox oo ok0 o9 of ot org orl olb n43 nrg nsk nl1 n7 nB nJ n38 nh nk nc hsb pb lb g3 g6 g5 g7 hall ho he lab sb sv y0 y1 y2 p0 p1 p2 yo yl cc cs0 ex ey o3 o6 yke inh4 hA hA1 hN g1 g2 g4 op pt e1 e2 le e0 a; omega)); exact ⟨this.1, this.2.1, this.2.2.1⟩) (fun j a b => (org j (by omega) (by (clear hx5 h90 h53 h75 hl0 hi hv h104 h19 hke hr ox oo ok0 o9 of ot org orl olb n43 nrg nsk nl1 n7 nB nJ n38 nh nk nc hsb pb lb g3 g6 g5 g7 hall ho he lab sb sv y0 y1 y2 p0 p1 p2 yo yl cc cs0 ex ey o3 o6 yke inh4 hA hA1 hN g1 g2 g4 op pt e1 e2 le e0 a; lia))).2.2.2 (by (clear hx5 h90 h53 h75 hl hl0 hi hv h104 h19 hke hr ox oo ok0 o9 of ot org orl olb n43 nct nrg nsk nl nl1 n7 nB nJ n38 nh nk nc hsb pb lb g3 g6 g5 g7 hall ho he lab sb sv y0 y1 y2 p0 p1 p2 yo yl cc cs0 ex ey o3 o6 yke inh4 hA hA1 hN g1 g2 g4 op pt e1 e2 le e0 a; omega)))
        have hl2 := orl e0
        exact CHP_a m c1' (by rw [hl2]; omega) (by rw [hl2]; exact pt)
    · -- the ops
      rw [inh4, nk, nl]
      by_cases c : k < N 6 75
      · rcases op k a c with h | ⟨ra, rb, q1, q2, q3, q4⟩
        · exact .inl (.inr h)
        · right
          refine ⟨ra, rb, by (clear hx5 h90 h53 h75 hl hl0 hv h104 h19 hke ox oo ok0 o9 of ot org orl olb n43 nrg nsk nl1 n7 nB nJ n38 nh nk nc hsb pb lb g3 g6 g5 g7 hall ho he lab sb sv y0 y1 y2 p0 p1 p2 yo yl cc cs0 ex ey o3 o6 yke inh4 hA hA1 hN g1 g2 g4 ch op a b c q2 q3 q4; lia), by (clear hx5 h90 h53 h75 hl hl0 hv h104 h19 hke hr ox oo ok0 o9 of ot org orl olb n43 nrg nsk nl1 n7 nB nJ n38 nh nk nc hsb pb lb g3 g6 g5 g7 hall ho he lab sb sv y0 y1 y2 p0 p1 p2 yo yl cc cs0 ex ey o3 o6 yke inh4 hA hA1 hN g1 g2 g4 ch op a b c q2 q3 q4; omega), ?_, by (clear hx5 h90 h53 h75 hl hl0 hi hv h104 h19 hr ox oo ok0 o9 of ot org orl olb n43 nct nrg nsk nl nl1 n7 nB n38 nh nc hsb pb lb g3 g6 g5 g7 hall ho he lab sb sv y0 y1 y2 p0 p1 p2 yo yl cc cs0 ex ey o3 o6 yke inh4 hA hA1 hN g1 g2 g4 ch op a c q1 q2 q3; omega)⟩
          refine OPX_c q3 (Int.le_refl _) (by (clear hx5 h90 h53 h75 hl hl0 hv h104 h19 hke hr ox oo ok0 o9 of ot org orl olb n43 nrg nsk nl nl1 n7 nB nJ n38 nh nk hsb pb lb g3 g6 g5 g7 hall ho he lab sb y2 p0 p1 p2 yo yl cc cs0 ex ey o3 o6 inh4 hA hA1 hN g1 g2 g4 ch op a b c q1 q2 q3 q4; lia)) (Int.le_refl _) (Int.le_refl _) (by (clear hx5 h90 h53 h75 hl hl0 hi hv h104 h19 hr ox oo ok0 o9 of ot org orl olb n43 nct nrg nsk nl nl1 n7 nB n38 nh nc hsb pb lb g3 g6 g5 g7 hall ho he lab sb sv y0 y1 y2 p0 p1 p2 yo yl cc cs0 ex ey o3 o6 yke inh4 hA hA1 hN g1 g2 g4 ch op a b c q1 q2 q3 q4; lia)) q4 (fun j x y => by have := pb j (by (clear hx5 h90 h53 h75 hl hl0 hi hv h104 h19 hke hr ox oo ok0 o9 of ot org orl olb n43 nct nrg nsk nl nl1 n7 nB nJ n38 nh nk nc hsb pb lb g3 g6 g5 g7 hall ho he lab sb sv y0 y1 y2 p0 p1 p2 yo yl cc cs0 ex ey o3 o6 yke inh4 hA hA1 hN g1 g2 g4 ch op b c q1 q2 q3 q4 y; omega)) (by (clear hx5 h90 h53 h75 hl hl0 hi hv h104 h19 hke hr ox oo ok0 o9 of ot org orl olb n43 nct nrg nsk nl nl1 n7 nB nJ n38 nh nk nc hsb pb lb g3 g6 g5 g7 hall ho he lab sb sv y0 y1 y2 p0 p1 p2 yo yl cc cs0 ex ey o3 o6 yke inh4 hA hA1 hN g1 g2 g4 ch op a b c q1 q2 q3 q4 x; omega)); (clear hx5 h90 h53 h75 hl hl0 hi hv h104 h19 hke hr ox oo ok0 o9 of ot org orl olb n43 nrg nsk nl nl1 n7 nB nJ n38 nh nk nc hsb pb lb g3 g6 g5 g7 hall ho he lab sb sv y1 y2 p0 p1 p2 yo yl cc cs0 ex ey o3 o6 yke inh4 hA hA1 hN g1 g2 g4 ch op a b c q1 q2 q3 q4 x y; omega)) (fun j x y => ex j (by omega)) (fun j h => .inl h) (fun h => by
            rcases h with h | h
            · exact h
            · have := p1 k h; (clear hx5 h90 h53 h75 hl hl0 hi hv h104 h19 hke hr ox oo ok0 o9 of ot org orl olb n43 nct nrg nsk nl nl1 n7 nB nJ n38 nh nk nc hsb pb lb g3 g6 g5 g7 hall ho he lab sb sv y0 y1 y2 p0 p1 p2 yo yl cc cs0 ex ey o3 o6 yke inh4 hA hA1 hN g1 g2 g4 ch op a b c q1 q2 q3 h; omega)) (fun j x y => rfl) (fun j x y => ?_) (fun r hr => oo r k hr (by (clear hx5 h90 h53 hl hl0 hi hv h104 h19 hke ox oo ok0 o9 of ot org orl olb n43 nct nrg nsk nl nl1 n7 nB nJ n38 nh nk nc hsb pb lb g3 g6 g5 g7 hall ho he lab sb sv y0 y1 y2 p0 p1 p2 yo yl cc cs0 ex ey o3 o6 yke inh4 hA hA1 hN g1 g2 g4 ch op b c q1 q2 q3 q4 hr; omega)) c (.inl (by (clear hx5 h90 h53 h75 hl hl0 hi hv h104 h19 hke ox oo ok0 o9 of ot org orl olb n43 nct nrg nsk nl nl1 n7 nB nJ n38 nh nk nc hsb pb lb g3 g6 g5 g7 hall ho he lab sb sv y0 y1 y2 p0 p1 p2 yo yl cc cs0 ex ey o3 o6 yke inh4 hA hA1 hN g1 g2 g4 ch op b c q1 q2 q3 q4 hr; lia)))) (fun j x y => o9 j (by (clear hx5 h90 h53 hl hl0 hi hv h104 h19 hke hr ox oo ok0 o9 of ot org orl olb n43 nct nrg nsk nl nl1 n7 nB nJ n38 nh nk nc hsb pb lb g3 g6 g5 g7 hall ho he lab sb sv y0 y1 y2 p0 p1 p2 yo yl cc cs0 ex ey o3 o6 yke inh4 hA hA1 hN g1 g2 g4 ch op b c q1 q2 q3 q4; lia)) (by (clear hx5 h90 h53 h75 hl hl0 hi hv h104 h19 hke hr ox oo ok0 o9 of ot org orl olb n43 nct nrg nsk nl nl1 n7 nB nJ n38 nh nk nc hsb pb lb g3 g6 g5 g7 hall ho he lab sb sv y0 y1 y2 p0 p1 p2 yo yl cc cs0 ex ey o3 o6 yke inh4 hA hA1 hN g1 g2 g4 ch op a b c q1 q2 q3; lia))) of ot h104.2
          have := org j (by (clear hx5 h53 h75 hl hl0 hi hv h104 h19 hke hr ox oo ok0 o9 of ot org orl olb n43 nct nrg nsk nl nl1 n7 nB nJ n38 nh nk nc hsb pb lb g3 g6 g5 g7 hall ho he lab sb sv y0 y1 y2 p0 p1 p2 yo yl cc cs0 ex ey o3 o6 yke inh4 hA hA1 hN g1 g2 g4 ch op a b c q2 q3 q4 y; lia)) (by (clear hx5 h90 h53 h75 hl hl0 hi hv h104 h19 hke hr ox oo ok0 o9 of ot org orl olb n43 nrg nsk nl1 n7 nB nJ n38 nh nk nc hsb pb lb g3 g6 g5 g7 hall ho he lab sb sv y0 y1 y2 p0 p1 p2 yo yl cc cs0 ex ey o3 o6 yke inh4 hA hA1 hN g1 g2 g4 ch op a b c q2 q3 q4 x; omega))
          exact ⟨this.1, this.2.1, this.2.2.1, this.2.2.2 (by (clear hx5 h90 h53 h75 hl hl0 hi hv h104 h19 hke hr ox oo ok0 o9 of ot org orl olb n43 nct nrg nsk nl nl1 n7 nB nJ n38 nh nk nc hsb pb lb g3 g6 g5 g7 hall ho he lab sb sv y0 y1 y2 p0 p1 p2 yo yl cc cs0 ex ey o3 o6 yke inh4 hA hA1 hN g1 g2 g4 ch op a b c q1 q3 q4; lia))⟩
      · by_cases c2 : k = ke
        · exact .inl (.inl c2)
        · right
          refine ⟨N 6 90 + i, N4 6 90, by (clear hx5 h53 h75 hl hl0 hv h104 h19 hke hr ox oo ok0 o9 of ot org orl olb n43 nrg nsk nl1 n7 nB nJ n38 nh nk nc hsb pb lb g3 g6 g5 g7 hall ho he lab sb sv y0 y1 y2 p0 p1 p2 yo yl cc cs0 ex ey o3 o6 yke inh4 hA hA1 hN g1 g2 g4 ch op a b c c2; lia), .inr (by omega), ?_, by (clear hx5 h90 h53 h75 hl hl0 hi hv h104 h19 hke hr ox oo ok0 o9 of ot org orl olb n43 nct nrg nsk nl nl1 n7 nB n38 nh nc hsb pb lb g3 g6 g5 g7 hall ho he lab sb sv y0 y1 y2 p0 p1 p2 yo yl cc cs0 ex ey o3 o6 yke inh4 hA hA1 hN g1 g2 g4 ch op a c; omega)⟩
          exact OPX_c (yo k (by (clear hx5 h90 h53 h75 hl hl0 hi hv h104 h19 hke hr ox oo ok0 o9 of ot org orl olb n43 nct nrg nsk nl nl1 n7 nB nJ n38 nh nk nc hsb pb lb g3 g6 g5 g7 hall ho he lab sb sv y0 y1 y2 p0 p1 p2 yo yl cc cs0 ex ey o3 o6 yke inh4 hA hA1 hN g1 g2 g4 ch op a b c2; omega)) (by (clear hx5 h90 h53 h75 hl hl0 hi hv h104 h19 hke hr ox oo ok0 o9 of ot org orl olb n43 nct nrg nsk nl nl1 n7 nB n38 nh nc hsb pb lb g3 g6 g5 g7 hall ho he lab sb sv y0 y1 y2 p0 p1 p2 yo yl cc cs0 ex ey o3 o6 yke inh4 hA hA1 hN g1 g2 g4 ch op a c; lia))) (by (clear hx5 h90 h53 h75 hl hl0 hv h104 h19 hke hr ox oo ok0 o9 of ot org orl olb n43 nrg nsk nl nl1 n7 nB nJ n38 nh nk nc hsb pb lb g3 g7 hall ho he lab sb sv y1 y2 p0 p1 p2 yo yl cc cs0 ex ey o3 o6 yke inh4 hA hA1 hN g1 g2 g4 ch op a b c c2; lia)) (by (clear hx5 h90 h53 h75 hl hl0 hi hv h104 h19 hke hr ox oo ok0 o9 of ot org orl olb n43 nct nrg nsk nl nl1 n7 nB nJ n38 nh nk hsb pb lb g3 g6 g5 g7 hall ho he lab sb sv y0 y1 y2 p0 p1 p2 yo yl cc cs0 ex ey o3 o6 yke inh4 hA hA1 hN g1 g2 g4 ch op a b c c2; omega)) (Int.le_refl _) (Int.le_refl _) (by (clear hx5 h90 h53 h75 hl hl0 hi hv h104 h19 hke hr ox oo ok0 o9 of ot org orl olb n43 nct nrg nsk nl nl1 n7 nB nJ n38 nh nk nc hsb pb lb g3 g6 g5 g7 hall ho he lab sb sv y0 y1 y2 p0 p1 p2 yo yl cc cs0 ex ey o3 o6 yke inh4 hA hA1 hN g1 g2 g4 ch op a b c c2; lia)) (by omega) (fun j x y => y2 j (by (clear hx5 h90 h53 h75 hl hl0 hi hv h104 h19 hke hr ox oo ok0 o9 of ot org orl olb n43 nct nrg nsk nl nl1 n7 nB nJ n38 nh nk nc hsb pb lb g3 g6 g5 g7 hall ho he lab sb sv y0 y1 y2 p0 p1 p2 yo yl cc cs0 ex ey o3 o6 yke inh4 hA hA1 hN g1 g2 g4 ch op a b c2 y; omega)) y) (fun j x y => ey j (by omega)) (fun j h => .inr h) (fun h => by
            rcases h with h | h
            · have := lb k h; (clear hx5 h90 h53 h75 hl hl0 hi hv h104 h19 hke hr ox oo ok0 o9 of ot org orl olb n43 nct nrg nsk nl nl1 n7 nB nJ n38 nh nk nc hsb pb lb g3 g6 g5 g7 hall ho he lab sb sv y0 y1 y2 p0 p1 p2 yo yl cc cs0 ex ey o3 o6 yke inh4 hA hA1 hN g1 g2 g4 ch op a b c2 h; omega)
            · exact h) (fun j x y => hN j (by (clear hx5 h90 h53 h75 hl hl0 hv h104 h19 hke hr ox oo ok0 o9 of ot org orl olb n43 nrg nsk nl nl1 n7 nB nJ n38 nh nk nc hsb pb lb g3 g6 g5 g7 hall ho he lab sb sv y1 y2 p0 p1 p2 yo yl cc cs0 ex ey o3 o6 yke inh4 hA hA1 hN g1 g2 g4 ch op a b c c2 y; lia)) (by (clear hx5 h90 h53 h75 hl hl0 hi hv h104 h19 hke hr ox oo ok0 o9 of ot org orl olb n43 nct nrg nsk nl nl1 n7 nB nJ n38 nh nk hsb pb lb g3 g6 g5 g7 hall ho he lab sb sv y0 y2 p0 p1 p2 yo yl cc cs0 ex ey o3 o6 inh4 hA hA1 hN g1 g2 g4 ch op a b c c2 x; omega)) (by (clear hx5 h90 h53 h75 hl hl0 hi hv h104 h19 hke hr ox oo ok0 o9 of ot org orl olb n43 nct nrg nsk nl nl1 n7 nB nJ n38 nh nk hsb pb lb g3 g6 g5 g7 hall ho he lab sb sv y0 y2 p0 p1 p2 yo yl cc cs0 ex ey o3 o6 inh4 hA hA1 hN g1 g2 g4 ch op a b c c2 x; omega))) (fun _ _ _ => ⟨rfl, rfl, rfl, rfl⟩) (fun _ _ => rfl) (fun _ _ _ => rfl) (fun _ _ _ => ⟨rfl, rfl⟩) ⟨tb_rf, rfl, rfl, rfl, rfl, rfl, rfl, rfl, rfl⟩ (Int.le_refl _)
  · -- the holes
    rw [nJ, nk]
    have gl : N 224 (Mq 6 102) < ke ∧ x4 + 2 ≤ ce + 1 := by
      cases mm with
      | zero =>
        have e1 : N 224 (Mq 6 102) = -1 := ho.1
        have e2 : x4 = -1 := ho.2
        (clear hx5 h90 h53 hl hl0 hv h104 h19 hr ox oo ok0 o9 of ot org orl olb n43 nrg nsk nl nl1 n7 nB n38 nh hsb pb lb g3 g6 g5 g7 lab sb y2 p0 p1 p2 yo yl cc ex ey o3 o6 hall ho he inh4; lia)
      | succ m =>
        have e1 := ho.1
        have e2 := ho.2.1
        have := pb _ e1.1 e1.2
        (clear hx5 h90 h53 h75 hl hl0 hv h104 h19 hr ox oo ok0 o9 of ot org orl olb n43 nrg nsk nl nl1 n7 nB n38 nh hsb pb lb g3 g6 g5 g7 lab sb y2 p0 p1 p2 yo yl cc cs0 ex ey o3 o6 hall ho he inh4; lia)
    refine ⟨by (clear hx5 h90 h53 hl hl0 hi hv h104 h19 hr ox oo ok0 o9 of ot org orl olb n43 nct nrg nsk nl nl1 n7 nB n38 nh nc hsb pb lb g3 g6 g5 g7 hall ho he lab sb sv y0 y1 y2 p0 p1 p2 yo yl cc cs0 ex ey o3 o6 yke inh4 gl; omega), by rw [yke], n7, by rw [yke]; exact n38, by rw [nB, nh]; exact gl, ?_⟩
    rw [nB, nh]
    exact HOL_c (cs := M 5 3) mm ho (by (clear hx5 h90 h53 h75 hl hl0 hi hv h104 h19 hr ox oo ok0 o9 of ot org orl olb n43 nct nrg nsk nl nl1 n7 nB n38 nh nc hsb pb lb g3 g6 g5 g7 hall ho he lab sb sv y0 y1 y2 p0 p1 p2 yo yl cc cs0 ex ey o3 o6 yke inh4 gl; lia)) (fun j x y => ⟨o3 j (by (clear hx5 h90 h53 hl hl0 hi hv h104 h19 hke hr ox oo ok0 o9 of ot org orl olb n43 nct nrg nsk nl nl1 n7 nB nJ n38 nh nk nc hsb pb lb g3 g6 g5 g7 hall ho he lab sb sv y0 y1 y2 p0 p1 p2 yo yl cc cs0 ex ey o3 o6 yke inh4 gl y; omega)) y, o6 j x y, ex j y, by have := pb j x y; (clear hx5 h90 h75 hl hl0 hi hv h104 h19 hke hr ox oo ok0 o9 of ot org orl olb n43 nrg nsk nl nl1 n7 nB nJ n38 nh nk nc hsb pb lb g3 g6 g5 g7 hall ho he lab sb sv y1 y2 p0 p1 p2 yo yl cc cs0 ex ey o3 o6 yke inh4 gl x y; omega)⟩) ox
  · -- ends
    have h5 : x5 = 1 ∧ v = 1 ∨ (x5 ≠ 0 ∧ v = 1) := by
      by_cases c : x5 = 0 ∨ v = 0
      · rw [if_pos c] at e; (clear hx5 h90 h53 h75 hl hl0 hi hv h104 h19 hke hr ox oo ok0 o9 of ot org orl olb n43 nct nrg nsk nl nl1 n7 nB nJ n38 nh nk nc hsb pb lb g3 g6 g5 g7 hall ho he lab sb sv y0 y1 y2 p0 p1 p2 yo yl cc cs0 ex ey o3 o6 yke inh4 hk hL c; lia)
      · right; (clear hx5 h90 h53 h75 hl hi h104 h19 hke hr ox oo ok0 o9 of ot org olb n43 nct nrg nsk nl nl1 n7 nB nJ n38 nh nk nc hsb pb lb g6 g5 g7 hall ho lab sb y0 y1 y2 p0 p1 yo yl cc cs0 ex ey o3 o6 yke inh4 hk hL; lia)
    rcases (inh4 k).mp hk with e1 | e2
    · rw [e1] at hL
      rcases hL with h | h
      · have := lb ke h; (clear hx5 h90 h53 h75 hl hl0 hi hv h104 h19 hr ox oo ok0 o9 of ot org orl olb n43 nct nrg nsk nl nl1 n7 nB n38 nh nc hsb pb lb g3 g6 g5 g7 hall ho he lab sb sv y0 y1 y2 p0 p1 p2 yo yl cc cs0 ex ey o3 o6 yke inh4 e hk h5 h; lia)
      · exact p2 (by (clear hx5 h90 h53 h75 hl hl0 hi hv h104 h19 hke hr ox oo ok0 o9 of ot org orl olb n43 nct nrg nsk nl nl1 n7 nB nJ n38 nh nk nc hsb pb lb g3 g6 g5 g7 hall ho he lab sb sv y0 y1 y2 p0 p1 p2 yo yl cc cs0 ex ey o3 o6 yke inh4 e hk e1 h; lia)) h
    · have b := INH_b mm ho e2
      rcases hL with h | h
      · exact he (by (clear h90 h53 h75 hl hi h104 h19 hke hr ox oo ok0 o9 of ot org olb n43 nct nrg nsk nl nl1 n7 nB nJ n38 nh nk nc hsb pb lb g6 g5 g7 hall ho lab sb y0 y1 y2 p0 p1 yo yl cc cs0 ex ey o3 o6 yke inh4 hk e2 b h; lia)) k e2 h
      · have := p1 k h; (clear hx5 h90 h53 h75 hl hl0 hi hv h104 h19 hke hr ox oo ok0 o9 of ot org orl olb n43 nct nrg nsk nl nl1 n7 nB nJ n38 nh nk nc hsb pb lb g3 g6 g5 g7 hall ho he lab sb sv y0 y1 y2 p0 p1 p2 yo yl cc cs0 ex ey o3 o6 yke inh4 e hk h5 e2 h; omega)
  · by_cases c : l < M 1 19
    · have q := lab l a c
      have r := olb l a c
      have b2 := lb _ q.2
      rw [r.1, r.2]
      refine ⟨?_, .inl q.2⟩
      rw [ex _ b2.2]; exact q.1
    · have q := yl l (by (clear hx5 h90 h53 h75 hl hl0 hi hv h104 h19 hke hr ox oo ok0 o9 of ot org orl olb n43 nct nrg nsk nl nl1 n7 nB nJ n38 nh nk nc hsb pb lb g3 g6 g5 g7 hall ho he lab sb sv y0 y1 y2 p0 p1 p2 yo yl cc cs0 ex ey o3 o6 yke inh4 a b; omega)) b
      have b2 := p1 _ q.2.1
      refine ⟨?_, .inr q.2.1⟩
      rw [ey _ b2.1]; exact q.1
  · rw [nk]
    have key : ∀ (w s : Int), (∃ k, (Mq 6 75 ≤ k ∧ k < ke + 1) ∧ N4 203 k = w ∧ N4 205 k = s) ↔ (∃ k, (Mq 6 75 ≤ k ∧ k < N 6 75) ∧ N 203 k = w ∧ N 205 k = s) ∨ (∃ k, (N 6 75 ≤ k ∧ k < ke + 1) ∧ N4 203 k = w ∧ N4 205 k = s) := by
      intro w s
      have o5 : ∀ j, 0 ≤ j → j < N 6 75 → N4 205 j = N 205 j := fun j a b => oo 205 j (by decide) a b (.inr (by decide))
      constructor
      · rintro ⟨k, ⟨h1, h2⟩, h3, h4⟩
        by_cases c : k < N 6 75
        · exact .inl ⟨k, ⟨h1, c⟩, by rw [← o3 k (by (clear hx5 h90 h53 hl hl0 hi hv h104 h19 hke hr ox oo ok0 o9 of ot org orl olb n43 nct nrg nsk nl nl1 n7 nB nJ n38 nh nk nc hsb pb lb g3 g6 g5 g7 hall ho he lab sb sv y0 y1 y2 p0 p1 p2 yo yl cc cs0 ex ey o3 o6 yke inh4 o5 h2 h3 h4 c; lia)) c]; exact h3, by rw [← o5 k (by omega) c]; exact h4⟩
        · exact .inr ⟨k, ⟨by (clear hx5 h90 h53 h75 hl hl0 hi hv h104 h19 hke hr ox oo ok0 o9 of ot org orl olb n43 nct nrg nsk nl nl1 n7 nB nJ n38 nh nk nc hsb pb lb g3 g6 g5 g7 hall ho he lab sb sv y0 y1 y2 p0 p1 p2 yo yl cc cs0 ex ey o3 o6 yke inh4 o5 h1 h2 h3 h4; lia), h2⟩, h3, h4⟩
      · rintro (⟨k, ⟨h1, h2⟩, h3, h4⟩ | ⟨k, ⟨h1, h2⟩, h3, h4⟩)
        · exact ⟨k, ⟨h1, by (clear hx5 h90 h53 h75 hl hl0 hi hv h104 h19 hr ox oo ok0 o9 of ot org orl olb n43 nct nrg nsk nl nl1 n7 nB n38 nh nc hsb pb lb g3 g6 g5 g7 hall ho he lab sb sv y0 y1 y2 p0 p1 p2 yo yl cc cs0 ex ey o3 o6 yke inh4 o5 h1 h3 h4; lia)⟩, by rw [o3 k (by omega) h2]; exact h3, by rw [o5 k (by omega) h2]; exact h4⟩
        · exact ⟨k, ⟨by (clear hx5 h90 h53 hl hl0 hi hv h104 h19 hke hr ox oo ok0 o9 of ot org orl olb n43 nct nrg nsk nl nl1 n7 nB nJ n38 nh nk nc hsb pb lb g3 g6 g5 g7 hall ho he lab sb sv y0 y1 y2 p0 p1 p2 yo yl cc cs0 ex ey o3 o6 yke inh4 o5 h2 h3 h4; omega), h2⟩, h3, h4⟩
    refine ⟨fun s a b => ?_, fun s a b => ?_⟩
    · rw [hsb.1 s a b, sb.1 s a b, key, or_assoc]
    · rw [hsb.2 s a b, sb.2 s a b, key, or_assoc]
end DS
end T141_ds
section T142_de
/-! the end of a decide -/
def xpt (v : Int) : Nat → mm_ → Int → mm_
  | 0, M, _ => M
  | m + 1, M, h => xpt v m (up_ M 142 h v) (M 142 h)
def qpt (v : Int) : Nat → mm_ → Int → mm_
  | 0, N, _ => N
  | m + 1, N, g => qpt v m (up_ N 205 g v) (N 206 g)
def XHO (lo hi : Int) : Nat → mm_ → Int → Prop
  | 0, _, h => h = -1
  | m + 1, M, h => (lo ≤ h ∧ h < hi) ∧ M 142 h < h ∧ XHO lo hi m M (M 142 h)
def QHO (k0 kc : Int) : Nat → mm_ → Int → Prop
  | 0, _, g => g = -1
  | m + 1, N, g => (k0 < g ∧ g < kc) ∧ N 206 g < g ∧ QHO k0 kc m N (N 206 g)
section DE
variable {Mx Mq M N M5 N5 : mm_} {px : Int → Int} {k0 kc lo hi x4 x5 T v : Int}
theorem xpt_r [Inhabited gh_] {r : Nat} (hr : r ≠ 142) : ∀ (m : Nat) {M : mm_} {h : Int}, xpt v m M h r = M r
  | 0, M, h => rfl
  | m + 1, M, h => by show xpt v m (up_ M 142 h v) (M 142 h) r = M r; rw [xpt_r hr m, up_ne hr]
theorem xpt_hi [Inhabited gh_] : ∀ (m : Nat) {M : mm_} {h j : Int}, XHO lo hi m M h → h < j ∨ j < lo → xpt v m M h 142 j = M 142 j
  | 0, M, h, j, _, _ => rfl
  | m + 1, M, h, j, ⟨h1, h2, h3⟩, hj => by
    show xpt v m (up_ M 142 h v) (M 142 h) 142 j = M 142 j
    have : XHO lo hi m (up_ M 142 h v) (M 142 h) := by
      have aux : ∀ (m : Nat) {x : Int}, x < h → XHO lo hi m M x → XHO lo hi m (up_ M 142 h v) x := by
        intro m
        induction m with
        | zero => intro x _ h; exact h
        | succ m ih => intro x hx ⟨a, b, c⟩; exact ⟨a, by rw [up_off (by (clear h1 h2 h3 hj ih a b c; omega))]; exact b, by rw [up_off (by omega)]; exact ih (by omega) c⟩
      exact aux m h2 h3
    rw [xpt_hi m this (by omega), up_off (by (clear h2 h3 this; omega))]
theorem XHO_u [Inhabited gh_] {h : Int} : ∀ (m : Nat) {x : Int}, x < h → XHO lo hi m M x → XHO lo hi m (up_ M 142 h v) x
  | 0, x, _, h => h
  | m + 1, x, hx, ⟨a, b, c⟩ => ⟨a, by rw [up_off (by omega)]; exact b, by rw [up_off (by omega)]; exact XHO_u m (by (clear a c; omega)) c⟩
theorem XHO_c [Inhabited gh_] {lo' hi' : Int} (hlo : lo' ≤ lo) (hhi : hi ≤ hi') (hx : ∀ j, lo ≤ j → j < hi → M5 142 j = M 142 j) : ∀ (m : Nat) {x : Int}, XHO lo hi m M x → XHO lo' hi' m M5 x
  | 0, x, h => h
  | m + 1, x, ⟨a, b, c⟩ => ⟨by omega, by rw [hx x a.1 a.2]; exact b, by rw [hx x a.1 a.2]; exact XHO_c hlo hhi hx m c⟩
theorem QHO_c [Inhabited gh_] {k1 kc' : Int} (hk : kc ≤ kc') (hq : ∀ j, k0 < j → j < kc → N5 206 j = N 206 j) : ∀ (m : Nat) {g : Int}, QHO k0 kc m N g → QHO k0 kc' m N5 g
  | 0, g, h => h
  | m + 1, g, ⟨a, b, c⟩ => ⟨by omega, by rw [hq g a.1 a.2]; exact b, by rw [hq g a.1 a.2]; exact QHO_c (k1 := k1) hk hq m c⟩
theorem qpt_r [Inhabited gh_] {r : Nat} (hr : r ≠ 205) : ∀ (m : Nat) {N : mm_} {g : Int}, qpt v m N g r = N r
  | 0, N, g => rfl
  | m + 1, N, g => by show qpt v m (up_ N 205 g v) (N 206 g) r = N r; rw [qpt_r hr m, up_ne hr]
theorem INH_205 [Inhabited gh_] {g x : Int} : ∀ (m : Nat) {g' k : Int}, INH (up_ N 205 g x) m g' k ↔ INH N m g' k
  | 0, _, _ => Iff.rfl
  | m + 1, g', k => by unfold INH; rw [up_ne (by decide), INH_205 m]
theorem qpt_205 [Inhabited gh_] : ∀ (m : Nat) {N : mm_} {g : Int}, (∀ k, INH N m g k → qpt v m N g 205 k = v) ∧ (∀ j, ¬ INH N m g j → qpt v m N g 205 j = N 205 j)
  | 0, N, g => ⟨fun _ h => h.elim, fun _ _ => rfl⟩
  | m + 1, N, g => by
    have ih := qpt_205 m (N := up_ N 205 g v) (g := N 206 g)
    refine ⟨fun k hk => ?_, fun j hj => ?_⟩
    · show qpt v m (up_ N 205 g v) (N 206 g) 205 k = v
      by_cases c : INH (up_ N 205 g v) m (N 206 g) k
      · exact ih.1 k c
      · rw [ih.2 k c]
        rcases hk with e | e
        · rw [e, up_at]
        · exact absurd ((INH_205 m).mpr e) c
    · show qpt v m (up_ N 205 g v) (N 206 g) 205 j = N 205 j
      rw [ih.2 j (fun c => hj (.inr ((INH_205 m).mp c))), up_off (fun e => hj (.inl e))]
theorem HOL_i [Inhabited gh_] : ∀ (m : Nat) {g h : Int}, HOL M N px k0 kc m g h → ∀ k, INH N m g k → N 203 k = 7 ∧ M 142 (px k) = 38 ∧ px k + 1 ≤ h
  | 0, _, _, _, _, hi => hi.elim
  | m + 1, g, h, ⟨h1, h2, h3, h4, h5, h6⟩, k, hi => by
    rcases hi with e | e
    · rw [e]; exact ⟨h3, h4, by omega⟩
    · have := HOL_i m h6 k e
      exact ⟨this.1, this.2.1, by (clear h1 h3 h4 h6 e; omega)⟩
theorem HOL_s [Inhabited gh_] : ∀ (m : Nat) {g h : Int}, HOL M N px k0 kc m g h → ∀ k k', INH N m g k → INH N m g k' → px k ≠ px k' + 1
  | 0, _, _, _, _, _, hi, _ => hi.elim
  | m + 1, g, h, ⟨h1, h2, h3, h4, h5, h6⟩, k, k', hi, hi' => by
    rcases hi with e | e
    · rcases hi' with e' | e'
      · rw [e, e']; (clear h1 h2 h3 h4 h5 h6 e e'; lia)
      · have := (HOL_i m h6 k' e').2.2
        rw [e]; (clear h1 h3 h4 h6 e e'; omega)
    · rcases hi' with e' | e'
      · have := (HOL_i m h6 k e).2.2
        rw [e']; (clear h1 h3 h4 h6 e e'; omega)
      · exact HOL_s m h6 k k' e e'
theorem HOL_u [Inhabited gh_] {h x : Int} : ∀ (m : Nat) {g y : Int}, y < h → HOL M N px k0 kc m g y → HOL (up_ M 142 h x) N px k0 kc m g y
  | 0, _, _, _, hh => hh
  | m + 1, g, y, hy, ⟨h1, h2, h3, h4, h5, h6⟩ => ⟨h1, h2, h3, by rw [up_off (by (clear h1 h3 h4 h5 h6; omega))]; exact h4, by rw [up_off (by omega)]; exact h5, by rw [up_off (by omega)]; exact HOL_u m (by omega) h6⟩
theorem xpt_H [Inhabited gh_] : ∀ (m : Nat) {M : mm_} {g h : Int}, HOL M N px k0 kc m g h → (∀ k, INH N m g k → xpt v m M h 142 (px k + 1) = v) ∧ (∀ j, (∀ k, INH N m g k → j ≠ px k + 1) → xpt v m M h 142 j = M 142 j)
  | 0, M, g, h, _ => ⟨fun _ h => h.elim, fun _ _ => rfl⟩
  | m + 1, M, g, h, ⟨h1, h2, h3, h4, h5, h6⟩ => by
    have ih := xpt_H m (HOL_u (x := v) m (by omega : M 142 h < h) h6)
    refine ⟨fun k hk => ?_, fun j hj => ?_⟩
    · show xpt v m (up_ M 142 h v) (M 142 h) 142 (px k + 1) = v
      rcases hk with e | e
      · rw [e, ih.2 _ (fun k' hk' => ?_), ← h2, up_at]
        have := (HOL_i m h6 k' hk').2.2
        omega
      · exact ih.1 k e
    · show xpt v m (up_ M 142 h v) (M 142 h) 142 j = M 142 j
      rw [ih.2 j (fun k hk => hj k (.inr hk)), up_off (by have := hj g (.inl rfl); (clear h1 h3 h4 h5 h6 ih hj; lia))]
/-- no else -/
theorem DS_e0 [Inhabited gh_] {mm : Nat} (h : DSEM Mx Mq M N T x4 x5 mm) (h53 : 0 ≤ Mx 5 3) (h75 : 0 ≤ Mq 6 75 ∧ Mq 6 75 < N 6 75) (hl : 0 ≤ N 222 (Mq 6 102)) (h104 : N5 6 104 = N 6 104) (h90 : 0 ≤ Mq 6 90 ∧ N5 6 90 = N 6 90)
    (hx : ∀ j, 0 ≤ j → j < M 5 3 → M5 142 j = xpt (M 5 3 + 1) mm M x4 142 j) (h44 : M5 142 (M 5 3) = 44) (ho : ∀ r j, r ∈ opL → 0 ≤ j → j < N 6 75 → r ≠ 205 → (r ≠ 208 ∨ j ≠ Mq 6 75) → N5 r j = N r j) (h205 : ∀ j, 0 ≤ j → j < N 6 75 → N5 205 j = qpt (N 6 75) mm N (N 224 (Mq 6 102)) 205 j) (h208 : N5 208 (Mq 6 75) = N 6 75) (h207 : N 207 (Mq 6 75) = -1)
    (o9 : ∀ j, 0 ≤ j → j < 3 * N 6 75 → N5 209 j = N 209 j) (of : ∀ j, 0 ≤ j → j < N 6 104 → N5 227 j = N 227 j ∧ N5 228 j = N 228 j) (ot : tc_ T N N5) (org : ∀ j, 0 ≤ j → j < N 6 90 → N5 216 j = N 216 j ∧ N5 217 j = N 217 j ∧ N5 218 j = N 218 j ∧ N5 219 j = N 219 j)
    (olb : ∀ l, Mx 1 19 ≤ l → l < M 1 19 → M5 129 (10 * T + l) = M 129 (10 * T + l) ∧ N5 188 (10 * T + l) = N 188 (10 * T + l)) : SEG M5 N5 T (Mq 6 75) (N 6 75) (Mx 5 3) (M 5 3 + 1) (Mq 6 90) (N5 6 90) (N5 6 104) (Mx 1 19) (M 1 19) 0 := by
  obtain ⟨px, L, c1, t, pb, lb, ⟨g3, g6, g5, g7⟩, hall, hh, he, lab, sb⟩ := h
  have xH := xpt_H (v := M 5 3 + 1) mm hh
  have q205 := qpt_205 (v := N 6 75) mm (N := N) (g := N 224 (Mq 6 102))
  have hA : AGH M N M5 px (Mx 5 3) (M 5 3) mm (N 224 (Mq 6 102)) := fun j a b hn => by rw [hx j (by (clear h75 hl h104 h90 hx h44 ho h205 h208 h207 o9 of ot org olb pb lb g3 g6 g5 g7 hall hh he lab sb xH q205 b hn; omega)) b]; exact xH.2 j hn
  obtain ⟨⟨g1, g2, g4⟩, ch, op⟩ := hall M5 hA
  have kN : ∀ k, INH N mm (N 224 (Mq 6 102)) k → Mq 6 75 < k ∧ k < N 6 75 := fun k hk => INH_b mm hh hk
  have e0 : (fun k => if k ≤ Mq 6 75 then Mx 5 3 else if k < N 6 75 then px k else M 5 3 + 1) (Mq 6 75) = Mx 5 3 := if_pos (Int.le_refl _)
  have e1 : (fun k => if k ≤ Mq 6 75 then Mx 5 3 else if k < N 6 75 then px k else M 5 3 + 1) (N 6 75) = M 5 3 + 1 := by
    show (if N 6 75 ≤ Mq 6 75 then Mx 5 3 else if N 6 75 < N 6 75 then px (N 6 75) else M 5 3 + 1) = M 5 3 + 1
    rw [if_neg (by (clear h53 hl h104 h90 hx h44 ho h205 h207 o9 of ot org olb pb lb g3 g6 g5 g7 hall hh he lab sb xH q205 hA g1 g2 g4 ch op kN e0; lia)), if_neg (by omega)]
  have ex : ∀ k, Mq 6 75 < k → k < N 6 75 → (fun k => if k ≤ Mq 6 75 then Mx 5 3 else if k < N 6 75 then px k else M 5 3 + 1) k = px k := fun k a b => by
    show (if k ≤ Mq 6 75 then Mx 5 3 else if k < N 6 75 then px k else M 5 3 + 1) = px k
    rw [if_neg (by (clear h53 h75 hl h104 h90 hx h44 ho h205 h208 h207 o9 of ot org olb pb lb g3 g6 g5 g7 hall hh he lab sb xH q205 hA g1 g2 g4 ch op kN e0 e1 b; omega)), if_pos b]
  have o3 : ∀ j, 0 ≤ j → j < N 6 75 → N5 203 j = N 203 j := fun j a b => ho 203 j (by decide) a b (by decide) (.inl (by decide))
  have k205 : N5 205 (Mq 6 75) = N 205 (Mq 6 75) := by
    rw [h205 _ h75.1 h75.2, q205.2 _ (fun c => by have := kN _ c; omega)]
  refine ⟨fun k => if k ≤ Mq 6 75 then Mx 5 3 else if k < N 6 75 then px k else M 5 3 + 1, fun k => k = Mq 6 75 ∨ L k ∨ k = N 6 75, ⟨e0, e1, fun k a b => ?_⟩, ⟨.inl rfl, fun k hk => ?_, fun e => absurd e (by decide)⟩, fun k a b => ?_, fun l a b => ?_⟩
  · show Mx 5 3 ≤ (if k ≤ Mq 6 75 then Mx 5 3 else if k < N 6 75 then px k else M 5 3 + 1) ∧ (if k ≤ Mq 6 75 then Mx 5 3 else if k < N 6 75 then px k else M 5 3 + 1) ≤ M 5 3 + 1
    split
    · (clear h53 h75 hl h104 h90 hx h44 ho h205 h208 h207 o9 of ot org olb pb lb g3 g7 hall hh he lab sb xH q205 hA g1 g2 g4 ch op kN ex o3 k205 a b; lia)
    · split
      · have := pb k (by omega) (by omega); (clear h53 h75 hl h104 h90 hx h44 ho h205 h208 h207 o9 of ot org olb pb lb g3 g6 g5 g7 hall hh he lab sb xH q205 hA g1 g2 g4 ch op kN ex o3 k205 a b; omega)
      · omega
  · rcases hk with e | e | e
    · (clear h53 hl h104 h90 hx h44 ho h205 h207 o9 of ot org olb pb lb g3 g6 g5 g7 hall hh he lab sb xH q205 hA g1 g2 g4 ch op kN e0 e1 ex o3 k205; lia)
    · have := lb k e; (clear h53 h75 hl h104 h90 hx h44 ho h205 h207 o9 of ot org olb pb lb g3 g6 g5 g7 hall hh he lab sb xH q205 hA g1 g2 g4 ch op kN e0 e1 ex o3 k205 e; lia)
    · (clear h53 hl h104 h90 hx h44 ho h205 h207 o9 of ot org olb pb lb g3 g6 g5 g7 hall hh he lab sb xH q205 hA g1 g2 g4 ch op kN e0 e1 ex o3 k205; lia)
  · by_cases c : k = Mq 6 75
    · rw [c]
      refine .inr (.inr (.inl ⟨by rw [o3 _ h75.1 h75.2]; exact g7, by rw [e0]; exact g1, by rw [e0, ho 204 _ (by decide) h75.1 h75.2 (by decide) (.inl (by decide))]; exact g2, c1, t, ?_⟩))
      rcases ch with ⟨_, z⟩ | ⟨m, z1, z2⟩
      · omega
      · refine ⟨m, g3, ?_, by (clear h53 h75 hl h104 h90 hx h44 ho h205 h208 h207 o9 of ot org olb pb lb g3 g6 g7 hall hh he lab sb xH q205 hA g1 g2 g4 op kN e0 ex o3 k205 a b c z1 z2; omega), ?_⟩
        · rw [e0, k205]
          exact EXP_c g4 (fun _ _ _ => rfl) (fun j x y => of j (by have := EXP_le g4; (clear h53 h75 hl h104 h90 hx h44 ho h205 h208 h207 o9 of ot org olb pb lb g3 g6 g5 g7 hall hh he lab sb xH q205 hA g1 g2 g4 op kN e0 e1 ex o3 k205 a b c z1 z2 y; omega)) y) ot.1 (by (clear h53 h75 hl h90 hx h44 ho h205 h208 h207 o9 of ot org olb pb lb g3 g6 g5 g7 hall hh he lab sb xH q205 hA g1 g2 g4 op kN e0 e1 ex o3 k205 a b c z1 z2; lia))
        · have le := CHP_le m z1
          rw [ho 206 _ (by decide) h75.1 h75.2 (by decide) (.inl (by decide))]
          have z3 := CHP_c (Mx' := M5) (Mq' := N5) (px' := fun k => if k ≤ Mq 6 75 then Mx 5 3 else if k < N 6 75 then px k else M 5 3 + 1) (L' := fun k => k = Mq 6 75 ∨ L k ∨ k = N 6 75) (lo' := Mx 5 3) (hi' := M 5 3 + 1) (r0' := Mq 6 90) (r1' := N5 6 90) (k1' := N 6 75) (Int.le_refl _) (by (clear h53 h75 hl h104 h90 hx h44 ho h205 h208 h207 o9 of ot org olb pb lb g3 g6 g5 g7 hall hh he lab sb xH q205 hA g1 g2 g4 op kN e0 e1 ex o3 k205 a b c z1 z2 le; lia)) (Int.le_refl _) (by omega) (by (clear h53 h75 hl h104 h90 hx h44 ho h205 h208 h207 o9 of ot org olb pb lb g3 g6 g5 g7 hall hh he lab sb xH q205 hA g1 g2 g4 op kN e0 e1 ex o3 k205 a b c z1 z2 le; lia)) (fun k a b => ex k (by omega) (by (clear h53 h75 hl h104 h90 hx h44 ho h205 h207 o9 of ot org olb pb lb g3 g6 g5 g7 hall hh he lab sb xH q205 hA g1 g2 g4 op kN e0 e1 ex o3 k205 c z1 z2 le a; omega))) (fun k h => .inr (.inl h)) (fun j a b => rfl) m z1 (fun j a b => by have := org j (by (clear h53 h75 hl h104 hx h44 ho h205 h208 h207 o9 of ot org olb pb lb g3 g6 g5 g7 hall hh he lab sb xH q205 hA g1 g2 g4 op kN e0 e1 ex o3 k205 c z1 z2 b; omega)) (by (clear h53 h75 hl h104 h90 hx h44 ho h205 h208 h207 o9 of ot org olb pb lb g3 g6 g5 g7 hall hh he lab sb xH q205 hA g1 g2 g4 op kN e0 e1 ex o3 k205 c z1 z2 a; omega)); exact ⟨this.1, this.2.1, this.2.2.1⟩) (fun j a b => (org j (by omega) (by (clear h53 h75 hl h104 h90 hx h44 ho h205 h208 h207 o9 of ot org olb pb lb g3 g6 g5 g7 hall hh he lab sb xH q205 hA g1 g2 g4 op kN e0 e1 ex o3 k205 c z1 z2 a; omega))).2.2.2)
          refine CHP_n m z3 ⟨by (clear h53 h75 hl h104 h90 hx h44 ho h205 h208 h207 o9 of ot org olb pb lb g3 g7 hall hh he lab sb xH q205 hA g1 g2 g4 op kN ex o3 k205 a b c z1 z2 le z3; omega), ?_, h44, N 6 75, ?_, ?_, by (clear h53 hl h104 h90 hx h44 ho h205 h207 o9 of ot org olb pb lb g3 g6 g5 g7 hall hh he lab sb xH q205 hA g1 g2 g4 op kN e0 e1 ex o3 k205 a b z1 z2 le z3; lia), .inr (.inr rfl)⟩
          · rw [(org _ (by omega) (by omega)).2.2.2]; exact z2
          · rw [ho 207 _ (by decide) h75.1 h75.2 (by decide) (.inl (by decide)), h207, if_neg (by decide)]; exact h208.symm
          · exact e1.symm
    · have hk1 : Mq 6 75 < k := by (clear h53 h75 hl h104 h90 hx h44 ho h205 h208 h207 o9 of ot org olb pb lb g3 g6 g5 g7 hall hh he lab sb xH q205 hA g1 g2 g4 ch op kN e0 e1 ex o3 k205 b; lia)
      rcases op k hk1 b with hi | ⟨ra, rb, q1, q2, q3, q4⟩
      · have z := HOL_i mm hh k hi
        have hp := pb k hk1 b
        refine .inr (.inl ⟨by rw [o3 k (by (clear h53 hl h104 h90 hx h44 ho h205 h208 h207 o9 of ot org olb pb lb g3 g6 g5 g7 hall hh he lab sb xH q205 hA g1 g2 g4 ch op kN e0 e1 ex o3 k205 a b c hi z hp; lia)) b]; exact z.1, ?_, ?_, ?_, ?_, ?_⟩)
        · rw [ex k hk1 b, hx _ (by (clear h75 hl h104 h90 hx h44 ho h205 h208 h207 o9 of ot org olb pb lb g3 g6 g5 g7 hall hh he lab sb xH q205 hA g1 g2 g4 ch op kN e1 ex o3 k205 a b c hk1 hi z; lia)) (by (clear h53 h75 hl h104 h90 hx h44 ho h205 h208 h207 o9 of ot org olb pb lb g3 g6 g5 g7 hall hh he lab sb xH q205 hA g1 g2 g4 ch op kN e0 ex o3 k205 a b c hk1 hi z; omega)), xH.2 _ (fun k' hk' => HOL_s mm hh k k' hi hk')]; exact z.2.1
        · rw [ex k hk1 b, h205 k (by omega) b, q205.1 k hi, e1, hx _ (by (clear h75 hl h104 h90 hx h44 ho h205 h208 h207 o9 of ot org olb pb lb g3 g6 g5 g7 hall hh he lab sb xH q205 hA g1 g2 g4 ch op kN e1 ex o3 k205 a b c hk1 hi z; lia)) (by (clear h53 h75 hl h104 h90 hx h44 ho h205 h208 h207 o9 of ot org olb pb lb g3 g6 g5 g7 hall hh he lab sb xH q205 hA g1 g2 g4 ch op kN e0 ex o3 k205 a b c hk1 hi z; omega))]; exact xH.1 k hi
        · rw [h205 k (by omega) b, q205.1 k hi]; (clear h53 h75 hl h104 h90 hx h44 ho h205 h207 o9 of ot org olb pb lb g3 g6 g5 g7 hall hh he lab sb xH q205 hA g1 g2 g4 ch op kN e0 e1 ex o3 k205 a c hk1 hi z hp; omega)
        · rw [ex k hk1 b]; (clear h53 h75 hl h104 h90 hx h44 ho h205 h208 h207 o9 of ot org olb pb lb g3 g6 g5 g7 hall hh he lab sb xH q205 hA g1 g2 g4 ch op kN e0 ex o3 k205 a b c hk1 hi z; omega)
        · rw [h205 k (by omega) b, q205.1 k hi]; exact fun _ => .inr (.inr rfl)
      · have nI : ¬ INH N mm (N 224 (Mq 6 102)) k ∨ INH N mm (N 224 (Mq 6 102)) k := (Classical.em _).symm
        rcases nI with nI | nI
        · refine OPX_c q3 (Int.le_refl _) (by (clear h53 h75 hl h104 h90 hx h44 ho h205 h208 h207 o9 of ot org olb pb lb g3 g6 g5 g7 hall hh he lab sb xH q205 hA g1 g2 g4 ch op kN e0 e1 ex o3 k205 a b c hk1 q1 q2 q3 q4 nI; lia)) q1.1 (by (clear h53 h75 hl h104 hx h44 ho h205 h208 h207 o9 of ot org olb pb lb g3 g6 g5 g7 hall hh he lab sb xH q205 hA g1 g2 g4 ch op kN e0 e1 ex o3 k205 a b c hk1 q2 q3 q4 nI; omega)) (by (clear h53 h75 hl h104 h90 hx h44 ho h205 h208 h207 o9 of ot org olb pb lb g3 g6 g5 g7 hall hh he lab sb xH q205 hA g1 g2 g4 ch op kN e0 e1 ex o3 k205 a b c hk1 q1 q2 q3 q4 nI; lia)) q4 (fun j x y => by have := pb j (by (clear h53 h75 hl h104 h90 hx h44 ho h205 h208 h207 o9 of ot org olb pb lb g3 g6 g5 g7 hall hh he lab sb xH q205 hA g1 g2 g4 ch op kN e0 e1 ex o3 k205 a b c q1 q2 q3 q4 nI y; omega)) (by (clear h53 h75 hl h104 h90 hx h44 ho h205 h207 o9 of ot org olb pb lb g3 g6 g5 g7 hall hh he lab sb xH q205 hA g1 g2 g4 ch op kN e0 e1 ex o3 k205 a b c hk1 q1 q2 q3 q4 nI x; lia)); (clear h53 h75 hl h104 h90 hx h44 ho h205 h208 h207 o9 of ot org olb pb lb g3 g6 g5 g7 hall hh he lab sb xH q205 hA g1 g2 g4 ch op kN ex o3 k205 a b c hk1 q1 q2 q3 q4 nI x y; omega)) (fun j x y => ex j (by omega) (by omega)) (fun j h => .inr (.inl h)) (fun h => by
            rcases h with h | h | h
            · (clear h53 h75 hl h104 h90 hx h44 ho h205 h208 h207 o9 of ot org olb pb lb g3 g6 g5 g7 hall hh he lab sb xH q205 hA g1 g2 g4 ch op kN e0 e1 ex o3 k205 a b c q1 q2 q3 q4 nI; lia)
            · exact h
            · (clear h53 h75 hl h104 h90 hx h44 ho h205 h207 o9 of ot org olb pb lb g3 g6 g5 g7 hall hh he lab sb xH q205 hA g1 g2 g4 ch op kN e0 e1 ex o3 k205 a b c hk1 q1 q2 q3 nI; omega)) (fun j x y => rfl) (fun j x y => org j (by (clear h53 h75 hl h104 hx h44 ho h205 h208 h207 o9 of ot org olb pb lb g3 g6 g5 g7 hall hh he lab sb xH q205 hA g1 g2 g4 ch op kN e0 e1 ex o3 k205 a b c hk1 q2 q3 q4 nI y; lia)) (by (clear h53 h75 hl h104 h90 hx h44 ho h205 h208 h207 o9 of ot org olb pb lb g3 g6 g5 g7 hall hh he lab sb xH q205 hA g1 g2 g4 ch op kN e0 e1 ex o3 k205 a b c hk1 q2 q3 q4 nI x; omega))) (fun r hr => ?_) (fun j x y => o9 j (by (clear h53 hl h104 h90 hx h44 ho h205 h208 h207 o9 of ot org olb pb lb g3 g6 g5 g7 hall hh he lab sb xH q205 hA g1 g2 g4 ch op kN e0 e1 ex o3 k205 a b c q1 q2 q3 q4 nI; lia)) (by (clear h53 h75 hl h104 h90 hx h44 ho h205 h207 o9 of ot org olb pb lb g3 g6 g5 g7 hall hh he lab sb xH q205 hA g1 g2 g4 ch op kN e0 e1 ex o3 k205 a b c hk1 q1 q2 q3 nI; lia))) of ot (by (clear h53 h75 hl h90 hx h44 ho h205 h208 h207 o9 of ot org olb pb lb g3 g6 g5 g7 hall hh he lab sb xH q205 hA g1 g2 g4 ch op kN e0 e1 ex o3 k205 a b c hk1 q1 q2 q3 q4 nI; lia))
          by_cases c5 : r = 205
          · rw [c5, h205 k (by (clear h53 hl h104 h90 hx h44 ho h205 h208 h207 o9 of ot org olb pb lb g3 g6 g5 g7 hall hh he lab sb xH q205 hA g1 g2 g4 ch op kN e0 e1 ex o3 k205 a b c q1 q2 q3 q4 nI hr c5; omega)) b, q205.2 k nI]
          · exact ho r k hr (by (clear h53 hl h104 h90 hx h44 ho h205 h208 h207 o9 of ot org olb pb lb g3 g6 g5 g7 hall hh he lab sb xH q205 hA g1 g2 g4 ch op kN e0 e1 ex o3 k205 a b c q1 q2 q3 q4 nI hr c5; lia)) b c5 (.inr (by omega))
        · have z := HOL_i mm hh k nI
          have hp := pb k hk1 b
          refine .inr (.inl ⟨by rw [o3 k (by (clear h53 hl h104 h90 hx h44 ho h205 h208 h207 o9 of ot org olb pb lb g3 g6 g5 g7 hall hh he lab sb xH q205 hA g1 g2 g4 ch op kN e0 e1 ex o3 k205 a b c q1 q2 q3 q4 nI z hp; omega)) b]; exact z.1, ?_, ?_, ?_, ?_, ?_⟩)
          · rw [ex k hk1 b, hx _ (by (clear h75 hl h104 h90 hx h44 ho h205 h208 h207 o9 of ot org olb pb lb g3 g6 g5 g7 hall hh he lab sb xH q205 hA g1 g2 g4 ch op kN e1 ex o3 k205 a b c hk1 q1 q2 q3 q4 nI z; omega)) (by (clear h53 h75 hl h104 h90 hx h44 ho h205 h208 h207 o9 of ot org olb pb lb g3 g6 g5 g7 hall hh he lab sb xH q205 hA g1 g2 g4 ch op kN e0 ex o3 k205 a b c hk1 q1 q2 q3 q4 nI z; omega)), xH.2 _ (fun k' hk' => HOL_s mm hh k k' nI hk')]; exact z.2.1
          · rw [ex k hk1 b, h205 k (by omega) b, q205.1 k nI, e1, hx _ (by (clear h75 hl h104 h90 hx h44 ho h205 h208 h207 o9 of ot org olb pb lb g3 g6 g5 g7 hall hh he lab sb xH q205 hA g1 g2 g4 ch op kN e1 ex o3 k205 a b c hk1 q1 q2 q3 q4 nI z; lia)) (by (clear h53 h75 hl h104 h90 hx h44 ho h205 h208 h207 o9 of ot org olb pb lb g3 g6 g5 g7 hall hh he lab sb xH q205 hA g1 g2 g4 ch op kN e0 ex o3 k205 a b c hk1 q1 q2 q3 q4 nI z; omega))]; exact xH.1 k nI
          · rw [h205 k (by omega) b, q205.1 k nI]; (clear h53 h75 hl h104 h90 hx h44 ho h205 h207 o9 of ot org olb pb lb g3 g6 g5 g7 hall hh he lab sb xH q205 hA g1 g2 g4 ch op kN e0 e1 ex o3 k205 a b c hk1 q1 q2 q3 nI z hp; omega)
          · rw [ex k hk1 b]; (clear h53 h75 hl h104 h90 hx h44 ho h205 h208 h207 o9 of ot org olb pb lb g3 g6 g5 g7 hall hh he lab sb xH q205 hA g1 g2 g4 ch op kN e0 ex o3 k205 a b c hk1 q1 q2 q3 q4 nI z; omega)
          · rw [h205 k (by omega) b, q205.1 k nI]; exact fun _ => .inr (.inr rfl)
  · have q := lab l a b
    have r := olb l a b
    have b2 := lb _ q.2
    rw [r.1, r.2]
    refine ⟨?_, .inr (.inl q.2), by (clear h53 h75 hl h104 h90 hx h44 ho h205 h207 o9 of ot org olb pb lb g3 g6 g5 g7 hall hh he lab sb xH q205 hA g1 g2 g4 ch op kN e0 e1 ex o3 k205 a b q r; omega)⟩
    rw [ex _ b2.1 b2.2]; exact q.1
end DE
end T142_de
section T143_de
/-! the end of a decide that has an else -/
section DE
variable {Mx Mq M N M5 N5 : mm_} {px : Int → Int} {k0 kc lo hi x4 x5 T v ke ce : Int}
theorem DS_e1 [Inhabited gh_] {mm : Nat} (h : DSEM Mx Mq M N T x4 x5 mm) (hx5 : x5 = 0 ∨ x5 = 1) (hv : v = 0 ∨ v = 1) (h53 : 0 ≤ Mx 5 3) (h75 : 0 ≤ Mq 6 75 ∧ Mq 6 75 < N 6 75) (hl : 0 ≤ N 222 (Mq 6 102)) (h104 : N 6 104 ≤ N5 6 104) (h90 : 0 ≤ Mq 6 90 ∧ N 6 90 ≤ N5 6 90) (h19 : M 1 19 ≤ M5 1 19) (hke : N 6 75 ≤ ke)
    (hx : ∀ j, 0 ≤ j → j < M 5 3 → M5 142 j = xpt ce mm M x4 142 j) (h44 : M5 142 (M 5 3) = 44) (ho : ∀ r j, r ∈ opL → 0 ≤ j → j < N 6 75 → r ≠ 205 → ((r ≠ 207 ∧ r ≠ 208) ∨ j ≠ Mq 6 75) → N5 r j = N r j) (h205 : ∀ j, 0 ≤ j → j < N 6 75 → N5 205 j = qpt (ke + 1) mm N (N 224 (Mq 6 102)) 205 j) (h207 : N5 207 (Mq 6 75) = N 6 75)
    (o9 : ∀ j, 0 ≤ j → j < 3 * N 6 75 → N5 209 j = N 209 j) (of : ∀ j, 0 ≤ j → j < N 6 104 → N5 227 j = N 227 j ∧ N5 228 j = N 228 j) (ot : tc_ T N N5) (org : ∀ j, 0 ≤ j → j < N 6 90 → N5 216 j = N 216 j ∧ N5 217 j = N 217 j ∧ N5 218 j = N 218 j ∧ N5 219 j = N 219 j)
    (olb : ∀ l, Mx 1 19 ≤ l → l < M 1 19 → M5 129 (10 * T + l) = M 129 (10 * T + l) ∧ N5 188 (10 * T + l) = N 188 (10 * T + l))
    (sg : SEG M5 N5 T (N 6 75) ke (M 5 3 + 1) ce (N 6 90) (N5 6 90) (N5 6 104) (M 1 19) (M5 1 19) v) (n7 : N5 203 ke = 7) (n5 : N5 205 ke = ke + 1) : SEG M5 N5 T (Mq 6 75) (ke + 1) (Mx 5 3) ce (Mq 6 90) (N5 6 90) (N5 6 104) (Mx 1 19) (M5 1 19) (if x5 = 0 ∨ v = 0 then 0 else 1) := by
  obtain ⟨px, L, c1, t, pb, lb, ⟨g3, g6, g5, g7⟩, hall, hh, he, lab, sb⟩ := h
  have sv := SEG_v sg hke
  obtain ⟨py, P, ⟨y0, y1, y2⟩, ⟨p0, p1, p2⟩, yo, yl⟩ := sg
  have cc : M 5 3 + 1 ≤ ce := sv.1
  have xH := xpt_H (v := ce) mm hh
  have q205 := qpt_205 (v := ke + 1) mm (N := N) (g := N 224 (Mq 6 102))
  have hA : AGH M N M5 px (Mx 5 3) (M 5 3) mm (N 224 (Mq 6 102)) := fun j a b hn => by rw [hx j (by (clear hx5 hv h75 hl h104 h90 h19 hke hx h44 ho h205 h207 o9 of ot org olb n7 n5 pb lb g3 g6 g5 g7 hall hh he lab sb sv y0 y1 y2 p0 p1 p2 yo yl cc xH q205 b hn; lia)) b]; exact xH.2 j hn
  obtain ⟨⟨g1, g2, g4⟩, ch, op⟩ := hall M5 hA
  have kN : ∀ k, INH N mm (N 224 (Mq 6 102)) k → Mq 6 75 < k ∧ k < N 6 75 := fun k hk => INH_b mm hh hk
  have e0 : (fun k => if k ≤ Mq 6 75 then Mx 5 3 else if k < N 6 75 then px k else if k ≤ ke then py k else ce) (Mq 6 75) = Mx 5 3 := if_pos (Int.le_refl _)
  have e1 : (fun k => if k ≤ Mq 6 75 then Mx 5 3 else if k < N 6 75 then px k else if k ≤ ke then py k else ce) (ke + 1) = ce := by
    show (if ke + 1 ≤ Mq 6 75 then Mx 5 3 else if ke + 1 < N 6 75 then px (ke + 1) else if ke + 1 ≤ ke then py (ke + 1) else ce) = ce
    rw [if_neg (by (clear hx5 hv h53 hl h104 h90 h19 hx h44 ho h205 o9 of ot org olb n7 pb lb g3 g6 g5 g7 hall hh he lab sb sv y0 y1 y2 p0 p1 p2 yo yl cc xH q205 hA g1 g2 g4 ch op kN e0; lia)), if_neg (by (clear hx5 hv h53 h75 hl h104 h90 h19 hx h44 ho h205 o9 of ot org olb n7 pb lb g3 g6 g5 g7 hall hh he lab sb sv y0 y1 y2 p0 p1 p2 yo yl cc xH q205 hA g1 g2 g4 ch op kN e0; lia)), if_neg (by (clear hx5 hv h53 h75 hl h104 h90 h19 hke hx h44 ho h205 h207 o9 of ot org olb n7 n5 pb lb g3 g6 g5 g7 hall hh he lab sb sv y0 y1 y2 p0 p1 p2 yo yl cc xH q205 hA g1 g2 g4 ch op kN e0; lia))]
  have ex : ∀ k, Mq 6 75 < k → k < N 6 75 → (fun k => if k ≤ Mq 6 75 then Mx 5 3 else if k < N 6 75 then px k else if k ≤ ke then py k else ce) k = px k := fun k a b => by
    show (if k ≤ Mq 6 75 then Mx 5 3 else if k < N 6 75 then px k else if k ≤ ke then py k else ce) = px k
    rw [if_neg (by (clear hx5 hv h53 h75 hl h104 h90 h19 hke hx h44 ho h205 h207 o9 of ot org olb n7 n5 pb lb g3 g6 g5 g7 hall hh he lab sb sv y0 y1 y2 p0 p1 p2 yo yl cc xH q205 hA g1 g2 g4 ch op kN e0 e1 b; omega)), if_pos b]
  have ey : ∀ k, N 6 75 ≤ k → k ≤ ke → (fun k => if k ≤ Mq 6 75 then Mx 5 3 else if k < N 6 75 then px k else if k ≤ ke then py k else ce) k = py k := fun k a b => by
    show (if k ≤ Mq 6 75 then Mx 5 3 else if k < N 6 75 then px k else if k ≤ ke then py k else ce) = py k
    rw [if_neg (by omega), if_neg (by (clear hx5 hv h53 h75 hl h104 h90 h19 hke hx h44 ho h205 o9 of ot org olb n7 n5 pb lb g3 g6 g5 g7 hall hh he lab sb sv y0 y1 y2 p0 p1 p2 yo yl cc xH q205 hA g1 g2 g4 ch op kN e0 e1 ex b; omega)), if_pos b]
  have o3 : ∀ j, 0 ≤ j → j < N 6 75 → N5 203 j = N 203 j := fun j a b => ho 203 j (by decide) a b (by decide) (.inl (by decide))
  have k205 : N5 205 (Mq 6 75) = N 205 (Mq 6 75) := by
    rw [h205 _ h75.1 h75.2, q205.2 _ (fun c => by have := kN _ c; (clear hx5 hv h53 h75 hl h104 h90 h19 hke hx h44 ho h205 h207 o9 of ot org olb n7 n5 pb lb g3 g6 g5 g7 hall hh he lab sb sv y0 y1 y2 p0 p1 p2 yo yl cc xH q205 hA g1 g2 g4 ch op kN e0 e1 ex ey o3 c; omega))]
  have vv : ∀ (Q : Prop), ((if x5 = 0 ∨ v = 0 then (0 : Int) else 1) = 0 → Q) → ((x5 = 1 ∧ v = 1) → Q) → Q := fun Q h1 h2 => by
    by_cases c : x5 = 0 ∨ v = 0
    · exact h1 (if_pos c)
    · exact h2 (by (clear h53 h75 h104 h90 h19 hke hx h44 ho h205 h207 o9 of ot org olb n7 n5 pb lb g6 g5 g7 hall hh lab sb y0 y1 y2 p0 p1 yo yl cc xH q205 hA g1 g2 g4 op kN e0 e1 ex ey o3 k205; lia))
  refine ⟨fun k => if k ≤ Mq 6 75 then Mx 5 3 else if k < N 6 75 then px k else if k ≤ ke then py k else ce, fun k => k = Mq 6 75 ∨ L k ∨ P k ∨ ((if x5 = 0 ∨ v = 0 then (0 : Int) else 1) = 0 ∧ k = ke + 1), ⟨e0, e1, fun k a b => ?_⟩, ⟨.inl rfl, fun k hk => ?_, fun e hk => ?_⟩, fun k a b => ?_, fun l a b => ?_⟩
  · show Mx 5 3 ≤ (if k ≤ Mq 6 75 then Mx 5 3 else if k < N 6 75 then px k else if k ≤ ke then py k else ce) ∧ (if k ≤ Mq 6 75 then Mx 5 3 else if k < N 6 75 then px k else if k ≤ ke then py k else ce) ≤ ce
    split
    · (clear hx5 hv h53 h75 hl h104 h90 h19 hke hx h44 ho h205 h207 o9 of ot org olb n7 n5 pb lb g3 g7 hall hh he lab sb y2 p0 p1 p2 yo yl cc xH q205 hA g1 g2 g4 ch op kN ex ey o3 k205 vv a b; lia)
    · split
      · have := pb k (by (clear hx5 hv h53 h75 hl h104 h90 h19 hke hx h44 ho h205 h207 o9 of ot org olb n7 n5 pb lb g3 g6 g5 g7 hall hh he lab sb sv y0 y1 y2 p0 p1 p2 yo yl cc xH q205 hA g1 g2 g4 ch op kN e0 e1 ex ey o3 k205 vv a b; omega)) (by omega); (clear hx5 hv h53 h75 hl h104 h90 h19 hke hx h44 ho h205 h207 o9 of ot org olb n7 n5 pb lb g3 g6 g5 g7 hall hh he lab sb y2 p0 p1 p2 yo yl cc xH q205 hA g1 g2 g4 ch op kN ex ey o3 k205 vv a b; omega)
      · split
        · have := y2 k (by (clear hx5 hv h53 h75 hl h104 h90 h19 hke hx h44 ho h205 o9 of ot org olb n7 n5 pb lb g3 g6 g5 g7 hall hh he lab sb sv y0 y1 y2 p0 p1 p2 yo yl cc xH q205 hA g1 g2 g4 ch op kN e0 e1 ex ey o3 k205 vv a b; omega)) (by omega); (clear hx5 hv h53 h75 hl h104 h90 h19 hke hx h44 ho h205 h207 o9 of ot org olb n7 n5 pb lb g3 g7 hall hh he lab sb sv y2 p0 p1 p2 yo yl cc xH q205 hA g1 g2 g4 ch op kN ex ey o3 k205 vv a b; lia)
        · (clear hx5 hv h53 h75 hl h104 h90 h19 hke hx h44 ho h205 h207 o9 of ot org olb n7 n5 pb lb g3 g7 hall hh he lab sb y2 p0 p1 p2 yo yl cc xH q205 hA g1 g2 g4 ch op kN ex ey o3 k205 vv a b; lia)
  · rcases hk with e | e | e | e
    · (clear hx5 hv h53 hl h104 h90 h19 hx h44 ho h205 o9 of ot org olb n7 pb lb g3 g6 g5 g7 hall hh he lab sb sv y0 y1 y2 p0 p1 p2 yo yl cc xH q205 hA g1 g2 g4 ch op kN e0 e1 ex ey o3 k205 vv; lia)
    · have := lb k e; (clear hx5 hv h53 h75 hl h104 h90 h19 hx h44 ho h205 o9 of ot org olb n7 pb lb g3 g6 g5 g7 hall hh he lab sb sv y0 y1 y2 p0 p1 p2 yo yl cc xH q205 hA g1 g2 g4 ch op kN e0 e1 ex ey o3 k205 vv e; lia)
    · have := p1 k e; (clear hx5 hv h53 hl h104 h90 h19 hke hx h44 ho h205 o9 of ot org olb n7 pb lb g3 g6 g5 g7 hall hh he lab sb sv y0 y1 y2 p0 p1 p2 yo yl cc xH q205 hA g1 g2 g4 ch op kN e0 e1 ex ey o3 k205 vv e; omega)
    · (clear hx5 hv h53 hl h104 h90 h19 hx h44 ho h205 o9 of ot org olb n7 pb lb g3 g6 g5 g7 hall hh he lab sb sv y0 y1 y2 p0 p1 p2 yo yl cc xH q205 hA g1 g2 g4 ch op kN e0 e1 ex ey o3 k205 vv; omega)
  · rcases hk with e1 | e1 | e1 | e1
    · (clear hx5 hv h53 hl h104 h90 h19 hx h44 ho h205 o9 of ot org olb n7 pb lb g3 g6 g5 g7 hall hh he lab sb sv y0 y1 y2 p0 p1 p2 yo yl cc xH q205 hA g1 g2 g4 ch op kN e0 ex ey o3 k205 vv e; omega)
    · have := lb _ e1; (clear hx5 hv h53 h75 hl h104 h90 h19 hx h44 ho h205 o9 of ot org olb n7 pb lb g3 g6 g5 g7 hall hh he lab sb sv y0 y1 y2 p0 p1 p2 yo yl cc xH q205 hA g1 g2 g4 ch op kN e0 ex ey o3 k205 vv e e1; omega)
    · have := p1 _ e1; omega
    · (clear hx5 hv h53 h75 hl h104 h90 h19 hke hx h44 ho h205 h207 o9 of ot org olb n7 n5 pb lb g3 g6 g5 g7 hall hh he lab sb sv y0 y1 y2 p0 p1 p2 yo yl cc xH q205 hA g1 g2 g4 ch op kN e0 ex ey o3 k205 vv; omega)
  · by_cases c : k = Mq 6 75
    · rw [c]
      refine .inr (.inr (.inl ⟨by rw [o3 _ h75.1 h75.2]; exact g7, by rw [e0]; exact g1, by rw [e0, ho 204 _ (by decide) h75.1 h75.2 (by decide) (.inl (by decide))]; exact g2, c1, t, ?_⟩))
      rcases ch with ⟨_, z⟩ | ⟨m, z1, z2⟩
      · omega
      · refine ⟨m, g3, ?_, by (clear hx5 hv h53 h75 hl h104 h90 h19 hke hx h44 ho h205 h207 o9 of ot org olb n7 n5 pb lb g3 g6 g7 hall hh he lab sb y2 p0 p1 p2 yo yl cc xH q205 hA g1 g2 g4 op kN e0 ex ey o3 k205 vv a b c z1 z2; lia), ?_⟩
        · rw [e0, k205]
          exact EXP_c g4 (fun _ _ _ => rfl) (fun j x y => of j (by have := EXP_le g4; (clear hx5 hv h53 h75 hl h104 h90 h19 hke hx h44 ho h205 h207 o9 of ot org olb n7 n5 pb lb g3 g6 g5 g7 hall hh he lab sb sv y0 y1 y2 p0 p1 p2 yo yl cc xH q205 hA g1 g2 g4 op kN e0 e1 ex ey o3 k205 vv a b c z1 z2 y; omega)) y) ot.1 (by omega)
        · have le := CHP_le m z1
          rw [ho 206 _ (by decide) h75.1 h75.2 (by decide) (.inl (by decide))]
          have z3 := CHP_c (Mx' := M5) (Mq' := N5) (px' := fun k => if k ≤ Mq 6 75 then Mx 5 3 else if k < N 6 75 then px k else if k ≤ ke then py k else ce) (L' := fun k => k = Mq 6 75 ∨ L k ∨ P k ∨ ((if x5 = 0 ∨ v = 0 then (0 : Int) else 1) = 0 ∧ k = ke + 1)) (lo' := Mx 5 3) (hi' := ce) (r0' := Mq 6 90) (r1' := N5 6 90) (k1' := ke + 1) (Int.le_refl _) (by (clear hx5 hv h53 h75 hl h104 h90 h19 hke hx h44 ho h205 h207 o9 of ot org olb n7 n5 pb lb g3 g6 g5 g7 hall hh he lab sb y2 p0 p1 p2 yo yl cc xH q205 hA g1 g2 g4 op kN e0 ex ey o3 k205 vv a b c z1 z2 le; omega)) (Int.le_refl _) (by (clear hx5 hv h53 h75 hl h104 h19 hke hx h44 ho h205 h207 o9 of ot org olb n7 n5 pb lb g3 g6 g5 g7 hall hh he lab sb sv y0 y1 y2 p0 p1 p2 yo yl cc xH q205 hA g1 g2 g4 op kN e0 e1 ex ey o3 k205 vv a b c z1 z2 le; omega)) (by (clear hx5 hv h53 h75 hl h104 h90 h19 hx h44 ho h205 o9 of ot org olb n7 pb lb g3 g6 g5 g7 hall hh he lab sb sv y0 y1 y2 p0 p1 p2 yo yl cc xH q205 hA g1 g2 g4 op kN e0 e1 ex ey o3 k205 vv a b c z1 z2 le; lia)) (fun k a b => ex k (by omega) (by omega)) (fun k h => .inr (.inl h)) (fun j a b => rfl) m z1 (fun j a b => by have := org j (by (clear hx5 hv h53 h75 hl h104 h19 hke hx h44 ho h205 h207 o9 of ot org olb n7 n5 pb lb g3 g6 g5 g7 hall hh he lab sb sv y0 y1 y2 p0 p1 p2 yo yl cc xH q205 hA g1 g2 g4 op kN e0 e1 ex ey o3 k205 vv c z1 z2 b; omega)) (by omega); exact ⟨this.1, this.2.1, this.2.2.1⟩) (fun j a b => (org j (by omega) (by omega)).2.2.2)
          refine CHP_n m z3 ⟨by (clear hx5 hv h53 h75 hl h104 h90 h19 hke hx h44 ho h205 h207 o9 of ot org olb n7 n5 pb lb g3 g7 hall hh he lab sb y2 p0 p1 p2 yo yl cc xH q205 hA g1 g2 g4 op kN ex ey o3 k205 vv a b c z1 z2 le z3; lia), ?_, h44, N 6 75, ?_, ?_, by (clear hx5 hv h53 hl h104 h90 h19 hx h44 ho h205 o9 of ot org olb n7 pb lb g3 g6 g5 g7 hall hh he lab sb sv y0 y1 y2 p0 p1 p2 yo yl cc xH q205 hA g1 g2 g4 op kN e0 e1 ex ey o3 k205 vv a b z1 z2 le z3; omega), .inr (.inr (.inl p0))⟩
          · rw [(org _ (by omega) (by omega)).2.2.2]; exact z2
          · rw [h207, if_pos (by (clear hx5 hv h53 hl h104 h90 h19 hke hx h44 ho h205 o9 of ot org olb n7 n5 pb lb g3 g6 g5 g7 hall hh he lab sb sv y0 y1 y2 p0 p1 p2 yo yl cc xH q205 hA g1 g2 g4 op kN e0 e1 ex ey o3 k205 vv a b z1 z2 le z3; lia))]
          · rw [ey _ (by omega) hke]; exact y0.symm
    · have hk1 : Mq 6 75 < k := by (clear hx5 hv h53 h75 hl h104 h90 h19 hke hx h44 ho h205 h207 o9 of ot org olb n7 n5 pb lb g3 g6 g5 g7 hall hh he lab sb sv y0 y1 y2 p0 p1 p2 yo yl cc xH q205 hA g1 g2 g4 ch op kN e0 e1 ex ey o3 k205 vv b; lia)
      by_cases ck : k < N 6 75
      · have pend : INH N mm (N 224 (Mq 6 102)) k → OPX M5 N5 (fun k => if k ≤ Mq 6 75 then Mx 5 3 else if k < N 6 75 then px k else if k ≤ ke then py k else ce) (fun k => k = Mq 6 75 ∨ L k ∨ P k ∨ ((if x5 = 0 ∨ v = 0 then (0 : Int) else 1) = 0 ∧ k = ke + 1)) T (Mx 5 3) ce (Mq 6 90) (N5 6 90) (ke + 1) (N5 6 104) k := fun hi => by
          have z := HOL_i mm hh k hi
          have hp := pb k hk1 ck
          refine .inr (.inl ⟨by rw [o3 k (by (clear hx5 hv h53 hl h104 h90 h19 hke hx h44 ho h205 h207 o9 of ot org olb n7 n5 pb lb g3 g6 g5 g7 hall hh he lab sb sv y0 y1 y2 p0 p1 p2 yo yl cc xH q205 hA g1 g2 g4 ch op kN e0 e1 ex ey o3 k205 vv a b c ck hi z hp; omega)) ck]; exact z.1, ?_, ?_, ?_, ?_, ?_⟩)
          · rw [ex k hk1 ck, hx _ (by (clear hx5 hv h75 hl h104 h90 h19 hke hx h44 ho h205 h207 o9 of ot org olb n7 n5 pb lb g3 g6 g5 g7 hall hh he lab sb sv y0 y1 y2 p0 p1 p2 yo yl cc xH q205 hA g1 g2 g4 ch op kN e1 ex ey o3 k205 vv a b c hk1 ck hi z; lia)) (by (clear hx5 hv h53 h75 hl h104 h90 h19 hke hx h44 ho h205 h207 o9 of ot org olb n7 n5 pb lb g3 g6 g5 g7 hall hh he lab sb sv y1 y2 p0 p1 p2 yo yl cc xH q205 hA g1 g2 g4 ch op kN e0 e1 ex ey o3 k205 vv a b c hk1 ck hi z; omega)), xH.2 _ (fun k' hk' => HOL_s mm hh k k' hi hk')]; exact z.2.1
          · rw [ex k hk1 ck, h205 k (by omega) ck, q205.1 k hi, e1, hx _ (by (clear hx5 hv h75 hl h104 h90 h19 hke hx h44 ho h205 h207 o9 of ot org olb n7 n5 pb lb g3 g6 g5 g7 hall hh he lab sb sv y0 y1 y2 p0 p1 p2 yo yl cc xH q205 hA g1 g2 g4 ch op kN e1 ex ey o3 k205 vv a b c hk1 ck hi z; lia)) (by (clear hx5 hv h53 h75 hl h104 h90 h19 hke hx h44 ho h205 h207 o9 of ot org olb n7 n5 pb lb g3 g6 g5 g7 hall hh he lab sb sv y1 y2 p0 p1 p2 yo yl cc xH q205 hA g1 g2 g4 ch op kN e0 e1 ex ey o3 k205 vv a b c hk1 ck hi z; omega))]; exact xH.1 k hi
          · rw [h205 k (by omega) ck, q205.1 k hi]; (clear hx5 hv h53 h75 hl h104 h90 h19 hke hx h44 ho h205 h207 o9 of ot org olb n7 pb lb g3 g6 g5 g7 hall hh he lab sb sv y0 y1 y2 p0 p1 p2 yo yl cc xH q205 hA g1 g2 g4 ch op kN e0 e1 ex ey o3 k205 vv a c hk1 ck hi z hp; omega)
          · rw [ex k hk1 ck]; (clear hx5 hv h53 h75 hl h104 h90 h19 hke hx h44 ho h205 h207 o9 of ot org olb n7 n5 pb lb g3 g6 g5 g7 hall hh he lab sb y2 p0 p1 p2 yo yl cc xH q205 hA g1 g2 g4 ch op kN e0 ex ey o3 k205 vv a b c hk1 ck hi z; omega)
          · rw [h205 k (by omega) ck, q205.1 k hi]
            intro hL
            refine vv _ (fun e => .inr (.inr (.inr ⟨e, rfl⟩))) (fun e => ?_)
            exfalso
            rcases hL with e2 | e2 | e2 | e2
            · exact c e2
            · exact he e.1 k hi e2
            · have := p1 _ e2; (clear hx5 hv h53 h75 hl h104 h90 h19 hke hx h44 ho h205 o9 of ot org olb n7 n5 pb lb g3 g6 g5 g7 hall hh he lab sb sv y0 y1 y2 p0 p1 p2 yo yl cc xH q205 hA g1 g2 g4 ch op kN e0 e1 ex ey o3 k205 vv a b c hk1 hi z hp e e2; omega)
            · (clear hx5 hv h53 h75 hl h104 h90 h19 hke hx h44 ho h205 h207 o9 of ot org olb n7 pb lb g3 g6 g5 g7 hall hh he lab sb sv y0 y1 y2 p0 p1 p2 yo yl cc xH q205 hA g1 g2 g4 ch op kN e0 e1 ex ey o3 k205 vv a c hk1 ck hi z hp e; omega)
        rcases op k hk1 ck with hi | ⟨ra, rb, q1, q2, q3, q4⟩
        · exact pend hi
        · rcases Classical.em (INH N mm (N 224 (Mq 6 102)) k) with nI | nI
          · exact pend nI
          · refine OPX_c q3 (Int.le_refl _) (by (clear hx5 hv h53 h75 hl h104 h90 h19 hke hx h44 ho h205 h207 o9 of ot org olb n7 n5 pb lb g3 g6 g5 g7 hall hh he lab sb y2 p0 p1 p2 yo yl cc xH q205 hA g1 g2 g4 ch op kN e0 ex ey o3 k205 vv a b c hk1 ck pend q1 q2 q3 q4 nI; lia)) q1.1 (by (clear hx5 hv h53 h75 hl h104 h19 hke hx h44 ho h205 h207 o9 of ot org olb n7 n5 pb lb g3 g6 g5 g7 hall hh he lab sb sv y0 y1 y2 p0 p1 p2 yo yl cc xH q205 hA g1 g2 g4 ch op kN e0 e1 ex ey o3 k205 vv a b c hk1 ck pend q2 q3 q4 nI; lia)) (by (clear hx5 hv h53 h75 hl h104 h90 h19 hx h44 ho h205 o9 of ot org olb n7 pb lb g3 g6 g5 g7 hall hh he lab sb sv y0 y1 y2 p0 p1 p2 yo yl cc xH q205 hA g1 g2 g4 ch op kN e0 e1 ex ey o3 k205 vv a b c hk1 ck pend q1 q2 q3 q4 nI; lia)) q4 (fun j x y => by have := pb j (by omega) (by (clear hx5 hv h53 h75 hl h104 h90 h19 hke hx h44 ho h205 o9 of ot org olb n7 n5 pb lb g3 g6 g5 g7 hall hh he lab sb sv y0 y1 y2 p0 p1 p2 yo yl cc xH q205 hA g1 g2 g4 ch op kN e0 e1 ex ey o3 k205 vv a b c hk1 ck pend q1 q2 q3 q4 nI x; lia)); (clear hx5 hv h53 h75 hl h104 h90 h19 hke hx h44 ho h205 h207 o9 of ot org olb n7 n5 pb lb g3 g6 g5 g7 hall hh he lab sb sv y1 y2 p0 p1 p2 yo yl cc xH q205 hA g1 g2 g4 ch op kN e1 ex ey o3 k205 vv a b c hk1 ck pend q1 q2 q3 q4 nI x y; omega)) (fun j x y => ex j (by omega) (by omega)) (fun j h => .inr (.inl h)) (fun h => by
              rcases h with h | h | h | h
              · (clear hx5 hv h53 h75 hl h104 h90 h19 hke hx h44 ho h205 h207 o9 of ot org olb n7 n5 pb lb g3 g6 g5 g7 hall hh he lab sb sv y0 y1 y2 p0 p1 p2 yo yl cc xH q205 hA g1 g2 g4 ch op kN e0 e1 ex ey o3 k205 vv a b c ck pend q1 q2 q3 q4 nI; omega)
              · exact h
              · have := p1 _ h; (clear hx5 hv h53 h75 hl h104 h90 h19 hke hx h44 ho h205 o9 of ot org olb n7 n5 pb lb g3 g6 g5 g7 hall hh he lab sb sv y0 y1 y2 p0 p1 p2 yo yl cc xH q205 hA g1 g2 g4 ch op kN e0 e1 ex ey o3 k205 vv a b c hk1 ck pend q1 q2 q3 nI h; omega)
              · (clear hx5 hv h53 h75 hl h104 h90 h19 hke hx h44 ho h205 h207 o9 of ot org olb n7 pb lb g3 g6 g5 g7 hall hh he lab sb sv y0 y1 y2 p0 p1 p2 yo yl cc xH q205 hA g1 g2 g4 ch op kN e0 e1 ex ey o3 k205 vv a c hk1 ck pend q1 q2 q3 q4 nI; omega)) (fun j x y => rfl) (fun j x y => org j (by (clear hx5 hv h53 h75 hl h104 h19 hke hx h44 ho h205 h207 o9 of ot org olb n7 n5 pb lb g3 g6 g5 g7 hall hh he lab sb sv y0 y1 y2 p0 p1 p2 yo yl cc xH q205 hA g1 g2 g4 ch op kN e0 e1 ex ey o3 k205 vv a b c hk1 ck pend q2 q3 q4 nI y; lia)) (by (clear hx5 hv h53 h75 hl h104 h90 h19 hke hx h44 ho h205 h207 o9 of ot org olb n7 n5 pb lb g3 g6 g5 g7 hall hh he lab sb sv y0 y1 y2 p0 p1 p2 yo yl cc xH q205 hA g1 g2 g4 ch op kN e0 e1 ex ey o3 k205 vv a b c hk1 ck pend q2 q3 q4 nI x; omega))) (fun r hr => ?_) (fun j x y => o9 j (by (clear hx5 hv h53 hl h104 h90 h19 hke hx h44 ho h205 h207 o9 of ot org olb n7 n5 pb lb g3 g6 g5 g7 hall hh he lab sb sv y0 y1 y2 p0 p1 p2 yo yl cc xH q205 hA g1 g2 g4 ch op kN e0 e1 ex ey o3 k205 vv a b c ck pend q1 q2 q3 q4 nI; lia)) (by omega)) of ot (by omega)
            by_cases c5 : r = 205
            · rw [c5, h205 k (by (clear hx5 hv h53 hl h104 h90 h19 hke hx h44 ho h205 h207 o9 of ot org olb n7 n5 pb lb g3 g6 g5 g7 hall hh he lab sb sv y0 y1 y2 p0 p1 p2 yo yl cc xH q205 hA g1 g2 g4 ch op kN e0 e1 ex ey o3 k205 vv a b c ck pend q1 q2 q3 q4 nI hr c5; lia)) ck, q205.2 k nI]
            · exact ho r k hr (by (clear hx5 hv h53 hl h104 h90 h19 hke hx h44 ho h205 h207 o9 of ot org olb n7 n5 pb lb g3 g6 g5 g7 hall hh he lab sb sv y0 y1 y2 p0 p1 p2 yo yl cc xH q205 hA g1 g2 g4 ch op kN e0 e1 ex ey o3 k205 vv a b c ck pend q1 q2 q3 q4 nI hr c5; lia)) ck c5 (.inr (by omega))
      · by_cases c2 : k = ke
        · rw [c2]
          refine .inr (.inr (.inr ⟨n7, ?_, ?_, ?_⟩))
          · rw [n5, e1, ey ke hke (Int.le_refl _)]; exact y1
          · rw [n5]; (clear hx5 hv h53 h75 hl h104 h90 h19 hke hx h44 ho h205 h207 o9 of ot org olb n7 n5 pb lb g3 g6 g5 g7 hall hh he lab sb sv y0 y1 y2 p0 p1 p2 yo yl cc xH q205 hA g1 g2 g4 ch op kN e0 e1 ex ey o3 k205 vv a b c hk1 ck c2; lia)
          · rw [n5]
            intro hL
            refine vv _ (fun e => .inr (.inr (.inr ⟨e, rfl⟩))) (fun e => ?_)
            exfalso
            rcases hL with e2 | e2 | e2 | e2
            · (clear hx5 hv h53 h75 hl h104 h90 h19 hke hx h44 ho h205 h207 o9 of ot org olb n7 pb lb g3 g6 g5 g7 hall hh he lab sb sv y0 y1 y2 p0 p1 p2 yo yl cc xH q205 hA g1 g2 g4 ch op kN e0 e1 ex ey o3 k205 vv a b c ck e; omega)
            · have := lb _ e2; (clear hx5 hv h53 h75 hl h104 h90 h19 hke hx h44 ho h205 o9 of ot org olb n7 pb lb g3 g6 g5 g7 hall hh he lab sb sv y0 y1 y2 p0 p1 p2 yo yl cc xH q205 hA g1 g2 g4 ch op kN e0 e1 ex ey o3 k205 vv a b c hk1 e e2; omega)
            · exact p2 e.2 e2
            · omega
        · exact OPX_c (yo k (by (clear hx5 hv h53 h75 hl h104 h90 h19 hke hx h44 ho h205 o9 of ot org olb n7 n5 pb lb g3 g6 g5 g7 hall hh he lab sb sv y0 y1 y2 p0 p1 p2 yo yl cc xH q205 hA g1 g2 g4 ch op kN e0 e1 ex ey o3 k205 vv a b c hk1 c2; omega)) (by (clear hx5 hv h53 h75 hl h104 h90 h19 hke hx h44 ho h205 h207 o9 of ot org olb n7 pb lb g3 g6 g5 g7 hall hh he lab sb sv y0 y1 y2 p0 p1 p2 yo yl cc xH q205 hA g1 g2 g4 ch op kN e0 e1 ex ey o3 k205 vv a c hk1 ck; omega))) (by (clear hx5 hv h53 h75 hl h104 h90 h19 hke hx h44 ho h205 h207 o9 of ot org olb n7 n5 pb lb g3 g7 hall hh he lab sb sv y1 y2 p0 p1 p2 yo yl cc xH q205 hA g1 g2 g4 ch op kN e1 ex ey o3 k205 vv a b c hk1 ck c2; omega)) (by (clear hx5 hv h53 h75 hl h104 h90 h19 hke hx h44 ho h205 h207 o9 of ot org olb n7 n5 pb lb g3 g6 g5 g7 hall hh he lab sb sv y0 y1 y2 p0 p1 p2 yo yl cc xH q205 hA g1 g2 g4 ch op kN e0 e1 ex ey o3 k205 vv a b c hk1 ck c2; lia)) (by
            rcases ch with ⟨_, z⟩ | ⟨m, z1, z2⟩
            · omega
            · have := CHP_le m z1; (clear hx5 hv h53 h75 hl h104 h90 h19 hke hx h44 ho h205 h207 o9 of ot org olb n7 n5 pb lb g3 g6 g5 g7 hall hh he lab sb sv y0 y1 y2 p0 p1 p2 yo yl cc xH q205 hA g1 g2 g4 op kN e0 e1 ex ey o3 k205 vv a b c hk1 ck c2 z1 z2; lia)) (Int.le_refl _) (by (clear hx5 hv h53 h75 hl h104 h90 h19 hke hx h44 ho h205 h207 o9 of ot org olb n7 n5 pb lb g3 g6 g5 g7 hall hh he lab sb sv y0 y1 y2 p0 p1 p2 yo yl cc xH q205 hA g1 g2 g4 ch op kN e0 e1 ex ey o3 k205 vv a b c hk1 ck c2; lia)) (by omega) (fun j x y => y2 j (by (clear hx5 hv h53 h75 hl h104 h90 h19 hke hx h44 ho h205 o9 of ot org olb n7 n5 pb lb g3 g6 g5 g7 hall hh he lab sb sv y0 y1 y2 p0 p1 p2 yo yl cc xH q205 hA g1 g2 g4 ch op kN e0 e1 ex ey o3 k205 vv a b c hk1 c2 y; omega)) y) (fun j x y => ey j (by omega) y) (fun j h => .inr (.inr (.inl h))) (fun h => by
            rcases h with h | h | h | h
            · (clear hx5 hv h53 h75 hl h104 h90 h19 hke hx h44 ho h205 h207 o9 of ot org olb n7 n5 pb lb g3 g6 g5 g7 hall hh he lab sb sv y0 y1 y2 p0 p1 p2 yo yl cc xH q205 hA g1 g2 g4 ch op kN e0 e1 ex ey o3 k205 vv a b c ck c2; omega)
            · have := lb k h; (clear hx5 hv h53 h75 hl h104 h90 h19 hke hx h44 ho h205 o9 of ot org olb n7 n5 pb lb g3 g6 g5 g7 hall hh he lab sb sv y0 y1 y2 p0 p1 p2 yo yl cc xH q205 hA g1 g2 g4 ch op kN e0 e1 ex ey o3 k205 vv a b c hk1 c2 h; omega)
            · exact h
            · (clear hx5 hv h53 h75 hl h104 h90 h19 hke hx h44 ho h205 h207 o9 of ot org olb n7 pb lb g3 g6 g5 g7 hall hh he lab sb sv y0 y1 y2 p0 p1 p2 yo yl cc xH q205 hA g1 g2 g4 ch op kN e0 e1 ex ey o3 k205 vv a c hk1 ck c2; omega)) (fun _ _ _ => rfl) (fun _ _ _ => ⟨rfl, rfl, rfl, rfl⟩) (fun _ _ => rfl) (fun _ _ _ => rfl) (fun _ _ _ => ⟨rfl, rfl⟩) ⟨tb_rf, rfl, rfl, rfl, rfl, rfl, rfl, rfl, rfl⟩ (Int.le_refl _)
  · by_cases c : l < M 1 19
    · have q := lab l a c
      have r := olb l a c
      have b2 := lb _ q.2
      rw [r.1, r.2]
      refine ⟨?_, .inr (.inl q.2), by (clear hx5 hv h53 h75 hl h104 h90 h19 hx h44 ho h205 o9 of ot org olb n7 pb lb g3 g6 g5 g7 hall hh he lab sb sv y0 y1 y2 p0 p1 p2 yo yl cc xH q205 hA g1 g2 g4 ch op kN e0 e1 ex ey o3 k205 vv a b c q r; omega)⟩
      rw [ex _ b2.1 b2.2]; exact q.1
    · have q := yl l (by (clear hx5 hv h53 h75 hl h104 h90 h19 hke hx h44 ho h205 h207 o9 of ot org olb n7 n5 pb lb g3 g6 g5 g7 hall hh he lab sb sv y0 y1 y2 p0 p1 p2 yo yl cc xH q205 hA g1 g2 g4 ch op kN e0 e1 ex ey o3 k205 vv a b; omega)) b
      have b2 := p1 _ q.2.1
      refine ⟨?_, .inr (.inr (.inl q.2.1)), by (clear hx5 hv h53 h75 hl h104 h90 h19 hke hx h44 ho h205 h207 o9 of ot org olb n7 pb lb g3 g6 g5 g7 hall hh he lab sb sv y0 y1 y2 p0 p1 p2 yo yl cc xH q205 hA g1 g2 g4 ch op kN e0 e1 ex ey o3 k205 vv a b c b2; omega)⟩
      rw [ey _ b2.1 b2.2]; exact q.1
end DE
end T143_de
section T144_tq
/-! Q's trans: which way it goes -/
abbrev LSz (st mk me c : Int) : lo_ := [rr 6, ii st, ii mk, ii me, ii c, ii 1, none]
def RT (d : Nat) (st mk me c : Int) (M : mm_) (c' : Int) (M' : mm_) : Prop := ∀ (V : vv_) (Kv : mm_ → Prop) (Qt : qt_), Cl_ wd0 (Tr_ wd0 pg0 d) V (rv_ Kv) Qt m_260 → Wk_ V → V 77 (LSz st mk me c') [] M' → V 77 (LSz st mk me c) [] M
def STq [Inhabited gh_] (d : Nat) (st mk me c : Int) (M Mx' : mm_) : Prop := ∀ (V : vv_) (Kv : mm_ → Prop) (Qt : qt_), Cl_ wd0 (Tr_ wd0 pg0 d) V (rv_ Kv) Qt m_260 → Wk_ V → (∀ M', SQ Mx' M M' → Kv M') → V 77 (LSz st mk me c) [] M
section TQ
variable {d dq n : Nat} {b F : Int} {Mx Mq M N : mm_} {a o x st mk me c x6 : Int} {K : Int → mm_ → Prop} {Kv G : mm_ → Prop} {Qt : qt_} {V : vv_}
theorem j_263 [Inhabited gh_] (hT : Tks Mx Mq) (hE : ER b F Mx Mq a o) (ht : isL (Mx 70) a → K 1 Mq) (hf : ¬ isL (Mx 70) a → K 0 Mq) : Tr_ wd0 pg0 (d + 2) 263 [.inr (.inr 6)] Mq (ri_ K) Qt := by
  refine t_263 fun V hV hW => b_263_0 (Tr_mono _) hV hW Mq ?_
  have h1 : isL (Mx 70) a → bl_ 1 ∧ ri_ K [.inl 1] Mq := fun c => ⟨.inr rfl, ri_i (ht c)⟩
  by_cases c1 : Mx 70 a = 11
  · refine j_229t hT hE (by decide) c1 ?_
    rw [if_neg (by decide)]; exact h1 (.inl c1)
  refine j_229f hT hE (by decide) c1 ?_
  rw [if_pos rfl]
  by_cases c2 : Mx 70 a = 12
  · refine j_229t hT hE (by decide) c2 ?_
    rw [if_neg (by decide)]; exact h1 (.inr (.inl c2))
  refine j_229f hT hE (by decide) c2 ?_
  rw [if_pos rfl]
  by_cases c3 : Mx 70 a = 13
  · refine j_229t hT hE (by decide) c3 ?_
    rw [if_neg (by decide)]; exact h1 (.inr (.inr c3))
  refine j_229f hT hE (by decide) c3 ?_
  rw [if_pos rfl]
  exact ⟨.inl rfl, ri_i (hf (by rintro (e | e | e); exact c1 e; exact c2 e; exact c3 e))⟩
theorem j_295 [Inhabited gh_] (hT : Tks Mx Mq) (hE : ER b F Mx Mq a o) (ht : isA (Mx 70) a → K 1 Mq) (hf : ¬ isA (Mx 70) a → K 0 Mq) : Tr_ wd0 pg0 (d + 2) 295 [.inr (.inr 6)] Mq (ri_ K) Qt := by
  obtain ⟨e1, e2, e3, e4, e5, e6⟩ := ER_k hT hE
  refine t_295 fun V hV hW => b_295_0 (Tr_mono _) hV hW Mq ⟨e3, ?_⟩
  have h1 : isA (Mx 70) a → bl_ 1 ∧ ri_ K [.inl 1] Mq := fun c => ⟨.inr rfl, ri_i (ht c)⟩
  by_cases c0 : Mx 70 a = 100
  · rw [if_pos ((kq_n e1).mpr c0)]; exact h1 (.inl c0)
  rw [if_neg (fun c => c0 ((kq_n e1).mp c))]
  by_cases c1 : Mx 70 a = 14
  · refine j_229t hT hE (by decide) c1 ?_
    rw [if_neg (by decide)]; exact h1 (.inr (by omega))
  refine j_229f hT hE (by decide) c1 ?_
  rw [if_pos rfl]
  by_cases c2 : Mx 70 a = 15
  · refine j_229t hT hE (by decide) c2 ?_
    rw [if_neg (by decide)]; exact h1 (.inr (by omega))
  refine j_229f hT hE (by decide) c2 ?_
  rw [if_pos rfl]
  by_cases c3 : Mx 70 a = 16
  · refine j_229t hT hE (by decide) c3 ?_
    rw [if_neg (by decide)]; exact h1 (.inr (by omega))
  refine j_229f hT hE (by decide) c3 ?_
  rw [if_pos rfl]
  by_cases c4 : Mx 70 a = 17
  · refine j_229t hT hE (by decide) c4 ?_
    rw [if_neg (by decide)]; exact h1 (.inr (by omega))
  refine j_229f hT hE (by decide) c4 ?_
  rw [if_pos rfl]
  by_cases c5 : Mx 70 a = 18
  · refine j_229t hT hE (by decide) c5 ?_
    rw [if_neg (by decide)]; exact h1 (.inr (by omega))
  refine j_229f hT hE (by decide) c5 ?_
  rw [if_pos rfl]
  exact ⟨.inl rfl, ri_i (hf (by rintro (e | e); exact c0 e; (clear hT hE ht hf e1 e2 e3 e4 e5 e6 hV hW h1 c0; lia)))⟩
theorem j_261 [Inhabited gh_] (hT : Tks Mx Mq) (hE : ER b F Mx Mq a o) (h12 : Mx 70 a = 100 → a < 1200) (ht : isN (Mx 70) a → K 1 Mq) (hf : ¬ isN (Mx 70) a → K 0 Mq) : Tr_ wd0 pg0 (d + 1) 261 [.inr (.inr 6)] Mq (ri_ K) Qt := by
  obtain ⟨e1, e2, e3, e4, e5, e6⟩ := ER_k hT hE
  have ha := ER_a hE
  refine t_261 fun V hV hW => b_261_0 (Tr_mono _) hV hW Mq ⟨e3, ?_⟩
  have no : ¬ isN (Mx 70) a → bl_ 0 ∧ ri_ K [.inl 0] Mq := fun c => ⟨.inl rfl, ri_i (hf c)⟩
  by_cases c0 : Mx 70 a = 100
  · rw [if_pos ((kq_n e1).mpr c0)]
    have h1 := h12 c0
    have q12 := hE.2.2.1
    rw [q12, w32_id (by omega) (by omega)]
    have g1 : gd_ Mx (a + 1) := gd_n hE.1 h1 (by omega) (by omega)
    have k1 := (hT (a + 1) g1).1
    refine ⟨by omega, ?_⟩
    by_cases c1 : Mq 149 (a + 1) = 3
    · rw [if_pos c1]
      refine ⟨by omega, ?_⟩
      by_cases c2 : Mq 151 (a + 1) = 58
      · have e9 : (if Mq 151 (a + 1) < 58 then (-1 : Int) else if Mq 151 (a + 1) = 58 then 0 else 1) = 0 := by rw [if_neg (by omega), if_pos c2]
        rw [if_pos e9]
        exact ⟨.inr rfl, ri_i (ht ⟨c0, (kq_s (x := 58) k1 (by decide)).mp ⟨c1, c2⟩⟩)⟩
      · have e9 : (if Mq 151 (a + 1) < 58 then (-1 : Int) else if Mq 151 (a + 1) = 58 then 0 else 1) ≠ 0 := by rw [if_neg c2]; split <;> omega
        rw [if_neg e9]
        exact no (fun e => c2 ((kq_s (x := 58) k1 (by decide)).mpr e.2).2)
    · rw [if_neg c1]
      exact no (fun e => c1 ((kq_s (x := 58) k1 (by decide)).mpr e.2).1)
  · rw [if_neg (fun c => c0 ((kq_n e1).mp c))]
    exact no (fun e => c0 e.1)
/-- from the head of Q's loop -/
theorem q_77 [Inhabited gh_] (hE : ER b F M N a o) (hV : Cl_ wd0 (Tr_ wd0 pg0 (d + 1)) V (rv_ Kv) Qt m_260) (hW : Wk_ V) (h : V 92 [rr 6, ii st, ii mk, ii me, ii c, ii 1, ii 0] [] N) : V 77 (LSz st mk me c) [] N := by
  refine b_260_77 (Tr_mono _) hV hW _ _ _ _ _ _ ?_
  rw [if_neg (by decide)]
  refine q_227g (ER_goq hE) ?_
  rw [if_pos rfl]; exact h
/-- no label here -/
theorem q_92 [Inhabited gh_] (hT : Tks M N) (hE : ER b F M N a o) (hn : c = 0 → ¬ isN (M 70) a) (h12 : c = 0 → M 70 a = 100 → a < 1200) (hV : Cl_ wd0 (Tr_ wd0 pg0 (d + 1)) V (rv_ Kv) Qt m_260) (hW : Wk_ V) (h : V 122 [rr 6, ii st, ii mk, ii me, ii c, ii 1, ii x6] [] N) : V 92 [rr 6, ii st, ii mk, ii me, ii c, ii 1, ii x6] [] N := by
  refine b_260_92 (Tr_mono _) hV hW _ _ _ _ _ _ _ ?_
  by_cases c0 : c = 0
  · rw [if_pos c0]
    refine q_227g (ER_goq hE) ?_
    rw [if_pos rfl]
    refine j_261 hT hE (h12 c0) (fun e => absurd e (hn c0)) (fun _ => ?_)
    rw [if_pos rfl]; exact h
  · rw [if_neg c0]; exact h
theorem q_92l [Inhabited gh_] (hT : Tks M N) (hE : ER b F M N a o) (hn : isN (M 70) a) (h12 : a < 1200) (hV : Cl_ wd0 (Tr_ wd0 pg0 (d + 1)) V (rv_ Kv) Qt m_260) (hW : Wk_ V) (h : Tr_ wd0 pg0 (d + 1) 262 [.inr (.inr 6), .inl me] N (rv_ fun M3 => V 92 [rr 6, ii st, ii mk, ii me, ii 0, ii 1, ii 1] [] M3) Qt) : V 92 [rr 6, ii st, ii mk, ii me, ii 0, ii 1, ii x6] [] N := by
  refine b_260_92 (Tr_mono _) hV hW _ _ _ _ _ _ _ ?_
  rw [if_pos rfl]
  refine q_227g (ER_goq hE) ?_
  rw [if_pos rfl]
  refine j_261 hT hE (fun _ => h12) (fun _ => ?_) (fun e => absurd hn e)
  rw [if_neg (by decide)]; exact h
theorem q_122l [Inhabited gh_] (hT : Tks M N) (hE : ER b F M N a o) (hn : isL (M 70) a) (hV : Cl_ wd0 (Tr_ wd0 pg0 (d + 2)) V (rv_ Kv) Qt m_260) (hW : Wk_ V) (h : Tr_ wd0 pg0 (d + 2) 264 [.inr (.inr 6), .inl me] N (rv_ fun M3 => V 77 (LSz st mk me 1) [] (up_ M3 6 103 1)) Qt) : V 122 [rr 6, ii st, ii mk, ii me, ii 0, ii 1, ii x6] [] N := by
  refine b_260_122 (Tr_mono _) hV hW _ _ _ _ _ _ _ (q_227g (ER_goq hE) ?_)
  rw [if_pos rfl, if_pos rfl]
  refine j_263 hT hE (fun _ => ?_) (fun e => absurd hn e)
  rw [if_neg (by decide)]
  exact Tr_m h (fun vs M g => ⟨g.1, .inr rfl, g.2⟩) (fun _ _ g => g)
theorem q_158 [Inhabited gh_] (hT : Tks M N) (hE : ER b F M N a o) (hn : c = 0 → ¬ isL (M 70) a) (hV : Cl_ wd0 (Tr_ wd0 pg0 (d + 2)) V (rv_ Kv) Qt m_260) (hW : Wk_ V) (h : V 158 [rr 6, ii st, ii mk, ii me, ii c, ii 1, ii x6] [] N) : V 122 [rr 6, ii st, ii mk, ii me, ii c, ii 1, ii x6] [] N := by
  refine b_260_122 (Tr_mono _) hV hW _ _ _ _ _ _ _ (q_227g (ER_goq hE) ?_)
  rw [if_pos rfl]
  by_cases c0 : c = 0
  · rw [if_pos c0]
    refine j_263 hT hE (fun e => absurd e (hn c0)) (fun _ => ?_)
    rw [if_pos rfl]; exact h
  · rw [if_neg c0]; exact h
theorem q_158d [Inhabited gh_] (hT : Tks M N) (hE : ER b F M N a o) (hk : M 70 a = 18) (hV : Cl_ wd0 (Tr_ wd0 pg0 (d + 2)) V (rv_ Kv) Qt m_260) (hW : Wk_ V) (h : Tr_ wd0 pg0 (d + 2) 269 [.inr (.inr 6)] N (rv_ fun M3 => V 77 (LSz st mk me 0) [] (up_ M3 6 103 0)) Qt) : V 158 [rr 6, ii st, ii mk, ii me, ii 0, ii 1, ii x6] [] N := by
  refine b_260_158 (Tr_mono _) hV hW _ _ _ _ _ _ _ ?_
  rw [if_pos rfl]
  refine j_229t hT hE (by decide) hk ?_
  rw [if_neg (by decide)]
  exact Tr_m h (fun vs M g => ⟨g.1, .inl rfl, g.2⟩) (fun _ _ g => g)
theorem q_158a [Inhabited gh_] (hT : Tks M N) (hE : ER b F M N a o) (hk : M 70 a ≠ 18) (hA : isA (M 70) a) (hV : Cl_ wd0 (Tr_ wd0 pg0 (d + 2)) V (rv_ Kv) Qt m_260) (hW : Wk_ V) (h : Tr_ wd0 pg0 (d + 2) 296 [.inr (.inr 6)] N (rv_ fun M3 => V 77 (LSz st mk me 0) [] (up_ M3 6 103 0)) Qt) : V 158 [rr 6, ii st, ii mk, ii me, ii 0, ii 1, ii x6] [] N := by
  refine b_260_158 (Tr_mono _) hV hW _ _ _ _ _ _ _ ?_
  rw [if_pos rfl]
  refine j_229f hT hE (by decide) hk ?_
  rw [if_pos rfl, if_pos rfl]
  refine j_295 hT hE (fun _ => ?_) (fun e => absurd hA e)
  rw [if_neg (by decide)]
  exact Tr_m h (fun vs M g => ⟨g.1, .inl rfl, g.2⟩) (fun _ _ g => g)
theorem q_158n [Inhabited gh_] (hT : Tks M N) (hE : ER b F M N a o) (hA : c = 0 → ¬ isA (M 70) a) (hV : Cl_ wd0 (Tr_ wd0 pg0 (d + 2)) V (rv_ Kv) Qt m_260) (hW : Wk_ V) (h : V 208 [rr 6, ii st, ii mk, ii me, ii c, ii 1, ii x6] [] N) : V 158 [rr 6, ii st, ii mk, ii me, ii c, ii 1, ii x6] [] N := by
  refine b_260_158 (Tr_mono _) hV hW _ _ _ _ _ _ _ ?_
  by_cases c0 : c = 0
  · have hA0 := hA c0
    rw [if_pos c0]
    refine j_229f hT hE (by decide) (fun e => hA0 (.inr (by omega))) ?_
    rw [if_pos rfl, if_pos c0]
    refine j_295 hT hE (fun e => absurd e hA0) (fun _ => ?_)
    rw [if_pos rfl]; exact h
  · rw [if_neg c0, if_neg c0]; exact h
/-- behind a part -/
theorem q_77e [Inhabited gh_] (hT : Tks M N) (hE : ER b F M N a o) (hc : c = 1 ∨ (c = 0 ∧ ¬ isA (M 70) a ∧ ¬ isL (M 70) a)) (hV : Cl_ wd0 (Tr_ wd0 pg0 (d + 2)) V (rv_ Kv) Qt m_260) (hW : Wk_ V) (h : V 208 [rr 6, ii st, ii mk, ii me, ii c, ii 1, ii 0] [] N) : V 77 (LSz st mk me c) [] N := by
  refine q_77 hE hV hW ?_
  refine q_92 hT hE (fun e hn => ?_) (fun e k => ?_) hV hW ?_
  · rcases hc with h | h
    · omega
    · exact h.2.1 (.inl hn.1)
  · rcases hc with h | h
    · omega
    · exact absurd (.inl k) h.2.1
  · refine q_158 hT hE (fun e => ?_) hV hW ?_
    · rcases hc with h | h
      · omega
      · exact h.2.2
    · refine q_158n hT hE (fun e => ?_) hV hW h
      rcases hc with h | h
      · omega
      · exact h.2.1
theorem q_208b [Inhabited gh_] (hd : N 6 102 ≠ 0) (hV : Cl_ wd0 (Tr_ wd0 pg0 (d + 2)) V (rv_ Kv) Qt m_260) (hW : Wk_ V) (h : Tr_ wd0 pg0 (d + 2) 303 [.inr (.inr 6)] N (rv_ fun M1 => V 77 (LSz st mk me 0) [] M1) Qt) : V 208 [rr 6, ii st, ii mk, ii me, ii c, ii 1, ii 0] [] N := by
  refine b_260_208 (Tr_mono _) hV hW _ _ _ _ _ _ _ ?_
  rw [if_pos rfl, if_neg hd]; exact h
end TQ
end T144_tq
