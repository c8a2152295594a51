section T143_de
/-! the end of a decide that has an else -/
section DE
variable {Mx Mq M N M5 N5 : mm_} {px : Int → Int} {k0 kc lo hi x4 x5 T v ke ce : Int}
theorem DS_e1 [Inhabited gh_] {mm : Nat} (h : DSEM Mx Mq M N T x4 x5 mm) (hx5 : x5 = 0 ∨ x5 = 1) (hv : v = 0 ∨ v = 1) (h53 : 0 ≤ Mx 5 3) (h75 : 0 ≤ Mq 6 75 ∧ Mq 6 75 < N 6 75) (hl : 0 ≤ N 222 (Mq 6 102)) (h104 : N 6 104 ≤ N5 6 104) (h90 : 0 ≤ Mq 6 90 ∧ N 6 90 ≤ N5 6 90) (h19 : M 1 19 ≤ M5 1 19) (hke : N 6 75 ≤ ke)
    (hx : ∀ j, 0 ≤ j → j < M 5 3 → M5 142 j = xpt ce mm M x4 142 j) (h44 : M5 142 (M 5 3) = 44) (ho : ∀ r j, r ∈ opL → 0 ≤ j → j < N 6 75 → r ≠ 205 → ((r ≠ 207 ∧ r ≠ 208) ∨ j ≠ Mq 6 75) → N5 r j = N r j) (h205 : ∀ j, 0 ≤ j → j < N 6 75 → N5 205 j = qpt (ke + 1) mm N (N 224 (Mq 6 102)) 205 j) (h207 : N5 207 (Mq 6 75) = N 6 75)
    (o9 : ∀ j, 0 ≤ j → j < 3 * N 6 75 → N5 209 j = N 209 j) (of : ∀ j, 0 ≤ j → j < N 6 104 → N5 227 j = N 227 j ∧ N5 228 j = N 228 j) (ot : tc_ T N N5) (org : ∀ j, 0 ≤ j → j < N 6 90 → N5 216 j = N 216 j ∧ N5 217 j = N 217 j ∧ N5 218 j = N 218 j ∧ N5 219 j = N 219 j)
    (olb : ∀ l, Mx 1 19 ≤ l → l < M 1 19 → M5 129 (10 * T + l) = M 129 (10 * T + l) ∧ N5 188 (10 * T + l) = N 188 (10 * T + l))
    (sg : SEG M5 N5 T (N 6 75) ke (M 5 3 + 1) ce (N 6 90) (N5 6 90) (N5 6 104) (M 1 19) (M5 1 19) v) (n7 : N5 203 ke = 7) (n5 : N5 205 ke = ke + 1) : SEG M5 N5 T (Mq 6 75) (ke + 1) (Mx 5 3) ce (Mq 6 90) (N5 6 90) (N5 6 104) (Mx 1 19) (M5 1 19) (if x5 = 0 ∨ v = 0 then 0 else 1) := by
  obtain ⟨px, L, c1, t, pb, lb, ⟨g3, g6, g5, g7⟩, hall, hh, he, lab, sb⟩ := h
  have sv := SEG_v sg hke
  obtain ⟨py, P, ⟨y0, y1, y2⟩, ⟨p0, p1, p2⟩, yo, yl⟩ := sg
  have cc : M 5 3 + 1 ≤ ce := sv.1
  have xH := xpt_H (v := ce) mm hh
  have q205 := qpt_205 (v := ke + 1) mm (N := N) (g := N 224 (Mq 6 102))
  have hA : AGH M N M5 px (Mx 5 3) (M 5 3) mm (N 224 (Mq 6 102)) := fun j a b hn => by rw [hx j (by omega) b]; exact xH.2 j hn
  obtain ⟨⟨g1, g2, g4⟩, ch, op⟩ := hall M5 hA
  have kN : ∀ k, INH N mm (N 224 (Mq 6 102)) k → Mq 6 75 < k ∧ k < N 6 75 := fun k hk => INH_b mm hh hk
  have e0 : (fun k => if k ≤ Mq 6 75 then Mx 5 3 else if k < N 6 75 then px k else if k ≤ ke then py k else ce) (Mq 6 75) = Mx 5 3 := if_pos (Int.le_refl _)
  have e1 : (fun k => if k ≤ Mq 6 75 then Mx 5 3 else if k < N 6 75 then px k else if k ≤ ke then py k else ce) (ke + 1) = ce := by
    show (if ke + 1 ≤ Mq 6 75 then Mx 5 3 else if ke + 1 < N 6 75 then px (ke + 1) else if ke + 1 ≤ ke then py (ke + 1) else ce) = ce
    rw [if_neg (by omega), if_neg (by omega), if_neg (by omega)]
  have ex : ∀ k, Mq 6 75 < k → k < N 6 75 → (fun k => if k ≤ Mq 6 75 then Mx 5 3 else if k < N 6 75 then px k else if k ≤ ke then py k else ce) k = px k := fun k a b => by
    show (if k ≤ Mq 6 75 then Mx 5 3 else if k < N 6 75 then px k else if k ≤ ke then py k else ce) = px k
    rw [if_neg (by omega), if_pos b]
  have ey : ∀ k, N 6 75 ≤ k → k ≤ ke → (fun k => if k ≤ Mq 6 75 then Mx 5 3 else if k < N 6 75 then px k else if k ≤ ke then py k else ce) k = py k := fun k a b => by
    show (if k ≤ Mq 6 75 then Mx 5 3 else if k < N 6 75 then px k else if k ≤ ke then py k else ce) = py k
    rw [if_neg (by omega), if_neg (by omega), if_pos b]
  have o3 : ∀ j, 0 ≤ j → j < N 6 75 → N5 203 j = N 203 j := fun j a b => ho 203 j (by decide) a b (by decide) (.inl (by decide))
  have k205 : N5 205 (Mq 6 75) = N 205 (Mq 6 75) := by
    rw [h205 _ h75.1 h75.2, q205.2 _ (fun c => by have := kN _ c; omega)]
  have vv : ∀ (Q : Prop), ((if x5 = 0 ∨ v = 0 then (0 : Int) else 1) = 0 → Q) → ((x5 = 1 ∧ v = 1) → Q) → Q := fun Q h1 h2 => by
    by_cases c : x5 = 0 ∨ v = 0
    · exact h1 (if_pos c)
    · exact h2 (by omega)
  refine ⟨fun k => if k ≤ Mq 6 75 then Mx 5 3 else if k < N 6 75 then px k else if k ≤ ke then py k else ce, fun k => k = Mq 6 75 ∨ L k ∨ P k ∨ ((if x5 = 0 ∨ v = 0 then (0 : Int) else 1) = 0 ∧ k = ke + 1), ⟨e0, e1, fun k a b => ?_⟩, ⟨.inl rfl, fun k hk => ?_, fun e hk => ?_⟩, fun k a b => ?_, fun l a b => ?_⟩
  · show Mx 5 3 ≤ (if k ≤ Mq 6 75 then Mx 5 3 else if k < N 6 75 then px k else if k ≤ ke then py k else ce) ∧ (if k ≤ Mq 6 75 then Mx 5 3 else if k < N 6 75 then px k else if k ≤ ke then py k else ce) ≤ ce
    split
    · omega
    · split
      · have := pb k (by omega) (by omega); omega
      · split
        · have := y2 k (by omega) (by omega); omega
        · omega
  · rcases hk with e | e | e | e
    · omega
    · have := lb k e; omega
    · have := p1 k e; omega
    · omega
  · rcases hk with e1 | e1 | e1 | e1
    · omega
    · have := lb _ e1; omega
    · have := p1 _ e1; omega
    · omega
  · by_cases c : k = Mq 6 75
    · rw [c]
      refine .inr (.inr (.inl ⟨by rw [o3 _ h75.1 h75.2]; exact g7, by rw [e0]; exact g1, by rw [e0, ho 204 _ (by decide) h75.1 h75.2 (by decide) (.inl (by decide))]; exact g2, c1, t, ?_⟩))
      rcases ch with ⟨_, z⟩ | ⟨m, z1, z2⟩
      · omega
      · refine ⟨m, g3, ?_, by omega, ?_⟩
        · rw [e0, k205]
          exact EXP_c g4 (fun _ _ _ => rfl) (fun j x y => of j (by have := EXP_le g4; omega) y) ot.1 (by omega)
        · have le := CHP_le m z1
          rw [ho 206 _ (by decide) h75.1 h75.2 (by decide) (.inl (by decide))]
          have z3 := CHP_c (Mx' := M5) (Mq' := N5) (px' := fun k => if k ≤ Mq 6 75 then Mx 5 3 else if k < N 6 75 then px k else if k ≤ ke then py k else ce) (L' := fun k => k = Mq 6 75 ∨ L k ∨ P k ∨ ((if x5 = 0 ∨ v = 0 then (0 : Int) else 1) = 0 ∧ k = ke + 1)) (lo' := Mx 5 3) (hi' := ce) (r0' := Mq 6 90) (r1' := N5 6 90) (k1' := ke + 1) (Int.le_refl _) (by omega) (Int.le_refl _) (by omega) (by omega) (fun k a b => ex k (by omega) (by omega)) (fun k h => .inr (.inl h)) (fun j a b => rfl) m z1 (fun j a b => by have := org j (by omega) (by omega); exact ⟨this.1, this.2.1, this.2.2.1⟩) (fun j a b => (org j (by omega) (by omega)).2.2.2)
          refine CHP_n m z3 ⟨by omega, ?_, h44, N 6 75, ?_, ?_, by omega, .inr (.inr (.inl p0))⟩
          · rw [(org _ (by omega) (by omega)).2.2.2]; exact z2
          · rw [h207, if_pos (by omega)]
          · rw [ey _ (by omega) hke]; exact y0.symm
    · have hk1 : Mq 6 75 < k := by omega
      by_cases ck : k < N 6 75
      · have pend : INH N mm (N 224 (Mq 6 102)) k → OPX M5 N5 (fun k => if k ≤ Mq 6 75 then Mx 5 3 else if k < N 6 75 then px k else if k ≤ ke then py k else ce) (fun k => k = Mq 6 75 ∨ L k ∨ P k ∨ ((if x5 = 0 ∨ v = 0 then (0 : Int) else 1) = 0 ∧ k = ke + 1)) T (Mx 5 3) ce (Mq 6 90) (N5 6 90) (ke + 1) (N5 6 104) k := fun hi => by
          have z := HOL_i mm hh k hi
          have hp := pb k hk1 ck
          refine .inr (.inl ⟨by rw [o3 k (by omega) ck]; exact z.1, ?_, ?_, ?_, ?_, ?_⟩)
          · rw [ex k hk1 ck, hx _ (by omega) (by omega), xH.2 _ (fun k' hk' => HOL_s mm hh k k' hi hk')]; exact z.2.1
          · rw [ex k hk1 ck, h205 k (by omega) ck, q205.1 k hi, e1, hx _ (by omega) (by omega)]; exact xH.1 k hi
          · rw [h205 k (by omega) ck, q205.1 k hi]; omega
          · rw [ex k hk1 ck]; omega
          · rw [h205 k (by omega) ck, q205.1 k hi]
            intro hL
            refine vv _ (fun e => .inr (.inr (.inr ⟨e, rfl⟩))) (fun e => ?_)
            exfalso
            rcases hL with e2 | e2 | e2 | e2
            · exact c e2
            · exact he e.1 k hi e2
            · have := p1 _ e2; omega
            · omega
        rcases op k hk1 ck with hi | ⟨ra, rb, q1, q2, q3, q4⟩
        · exact pend hi
        · rcases Classical.em (INH N mm (N 224 (Mq 6 102)) k) with nI | nI
          · exact pend nI
          · refine OPX_c q3 (Int.le_refl _) (by omega) q1.1 (by omega) (by omega) q4 (fun j x y => by have := pb j (by omega) (by omega); omega) (fun j x y => ex j (by omega) (by omega)) (fun j h => .inr (.inl h)) (fun h => by
              rcases h with h | h | h | h
              · omega
              · exact h
              · have := p1 _ h; omega
              · omega) (fun j x y => rfl) (fun j x y => org j (by omega) (by omega)) (fun r hr => ?_) (fun j x y => o9 j (by omega) (by omega)) of ot (by omega)
            by_cases c5 : r = 205
            · rw [c5, h205 k (by omega) ck, q205.2 k nI]
            · exact ho r k hr (by omega) ck c5 (.inr (by omega))
      · by_cases c2 : k = ke
        · rw [c2]
          refine .inr (.inr (.inr ⟨n7, ?_, ?_, ?_⟩))
          · rw [n5, e1, ey ke hke (Int.le_refl _)]; exact y1
          · rw [n5]; omega
          · rw [n5]
            intro hL
            refine vv _ (fun e => .inr (.inr (.inr ⟨e, rfl⟩))) (fun e => ?_)
            exfalso
            rcases hL with e2 | e2 | e2 | e2
            · omega
            · have := lb _ e2; omega
            · exact p2 e.2 e2
            · omega
        · exact OPX_c (yo k (by omega) (by omega)) (by omega) (by omega) (by
            rcases ch with ⟨_, z⟩ | ⟨m, z1, z2⟩
            · omega
            · have := CHP_le m z1; omega) (Int.le_refl _) (by omega) (by omega) (fun j x y => y2 j (by omega) y) (fun j x y => ey j (by omega) y) (fun j h => .inr (.inr (.inl h))) (fun h => by
            rcases h with h | h | h | h
            · omega
            · have := lb k h; omega
            · exact h
            · omega) (fun _ _ _ => rfl) (fun _ _ _ => ⟨rfl, rfl, rfl, rfl⟩) (fun _ _ => rfl) (fun _ _ _ => rfl) (fun _ _ _ => ⟨rfl, rfl⟩) ⟨tb_rf, rfl, rfl, rfl, rfl, rfl, rfl, rfl, rfl⟩ (Int.le_refl _)
  · by_cases c : l < M 1 19
    · have q := lab l a c
      have r := olb l a c
      have b2 := lb _ q.2
      rw [r.1, r.2]
      refine ⟨?_, .inr (.inl q.2), by omega⟩
      rw [ex _ b2.1 b2.2]; exact q.1
    · have q := yl l (by omega) b
      have b2 := p1 _ q.2.1
      refine ⟨?_, .inr (.inr (.inl q.2.1)), by omega⟩
      rw [ey _ b2.1 b2.2]; exact q.1
end DE
end T143_de
section T144_tq
/-! Q's trans: which way it goes -/
abbrev LSz (st mk me c : Int) : lo_ := [rr 6, ii st, ii mk, ii me, ii c, ii 1, none]
def RT (d : Nat) (st mk me c : Int) (M : mm_) (c' : Int) (M' : mm_) : Prop := ∀ (V : vv_) (Kv : mm_ → Prop) (Qt : qt_), Cl_ wd0 (Tr_ wd0 pg0 d) V (rv_ Kv) Qt m_260 → Wk_ V → V 77 (LSz st mk me c') [] M' → V 77 (LSz st mk me c) [] M
def STq [Inhabited gh_] (d : Nat) (st mk me c : Int) (M Mx' : mm_) : Prop := ∀ (V : vv_) (Kv : mm_ → Prop) (Qt : qt_), Cl_ wd0 (Tr_ wd0 pg0 d) V (rv_ Kv) Qt m_260 → Wk_ V → (∀ M', SQ Mx' M M' → Kv M') → V 77 (LSz st mk me c) [] M
section TQ
variable {d dq n : Nat} {b F : Int} {Mx Mq M N : mm_} {a o x st mk me c x6 : Int} {K : Int → mm_ → Prop} {Kv G : mm_ → Prop} {Qt : qt_} {V : vv_}
theorem j_263 [Inhabited gh_] (hT : Tks Mx Mq) (hE : ER b F Mx Mq a o) (ht : isL (Mx 70) a → K 1 Mq) (hf : ¬ isL (Mx 70) a → K 0 Mq) : Tr_ wd0 pg0 (d + 2) 263 [.inr (.inr 6)] Mq (ri_ K) Qt := by
  refine t_263 fun V hV hW => b_263_0 (Tr_mono _) hV hW Mq ?_
  have h1 : isL (Mx 70) a → bl_ 1 ∧ ri_ K [.inl 1] Mq := fun c => ⟨.inr rfl, ri_i (ht c)⟩
  by_cases c1 : Mx 70 a = 11
  · refine j_229t hT hE (by decide) c1 ?_
    rw [if_neg (by decide)]; exact h1 (.inl c1)
  refine j_229f hT hE (by decide) c1 ?_
  rw [if_pos rfl]
  by_cases c2 : Mx 70 a = 12
  · refine j_229t hT hE (by decide) c2 ?_
    rw [if_neg (by decide)]; exact h1 (.inr (.inl c2))
  refine j_229f hT hE (by decide) c2 ?_
  rw [if_pos rfl]
  by_cases c3 : Mx 70 a = 13
  · refine j_229t hT hE (by decide) c3 ?_
    rw [if_neg (by decide)]; exact h1 (.inr (.inr c3))
  refine j_229f hT hE (by decide) c3 ?_
  rw [if_pos rfl]
  exact ⟨.inl rfl, ri_i (hf (by rintro (e | e | e); exact c1 e; exact c2 e; exact c3 e))⟩
theorem j_295 [Inhabited gh_] (hT : Tks Mx Mq) (hE : ER b F Mx Mq a o) (ht : isA (Mx 70) a → K 1 Mq) (hf : ¬ isA (Mx 70) a → K 0 Mq) : Tr_ wd0 pg0 (d + 2) 295 [.inr (.inr 6)] Mq (ri_ K) Qt := by
  obtain ⟨e1, e2, e3, e4, e5, e6⟩ := ER_k hT hE
  refine t_295 fun V hV hW => b_295_0 (Tr_mono _) hV hW Mq ⟨e3, ?_⟩
  have h1 : isA (Mx 70) a → bl_ 1 ∧ ri_ K [.inl 1] Mq := fun c => ⟨.inr rfl, ri_i (ht c)⟩
  by_cases c0 : Mx 70 a = 100
  · rw [if_pos ((kq_n e1).mpr c0)]; exact h1 (.inl c0)
  rw [if_neg (fun c => c0 ((kq_n e1).mp c))]
  by_cases c1 : Mx 70 a = 14
  · refine j_229t hT hE (by decide) c1 ?_
    rw [if_neg (by decide)]; exact h1 (.inr (by omega))
  refine j_229f hT hE (by decide) c1 ?_
  rw [if_pos rfl]
  by_cases c2 : Mx 70 a = 15
  · refine j_229t hT hE (by decide) c2 ?_
    rw [if_neg (by decide)]; exact h1 (.inr (by omega))
  refine j_229f hT hE (by decide) c2 ?_
  rw [if_pos rfl]
  by_cases c3 : Mx 70 a = 16
  · refine j_229t hT hE (by decide) c3 ?_
    rw [if_neg (by decide)]; exact h1 (.inr (by omega))
  refine j_229f hT hE (by decide) c3 ?_
  rw [if_pos rfl]
  by_cases c4 : Mx 70 a = 17
  · refine j_229t hT hE (by decide) c4 ?_
    rw [if_neg (by decide)]; exact h1 (.inr (by omega))
  refine j_229f hT hE (by decide) c4 ?_
  rw [if_pos rfl]
  by_cases c5 : Mx 70 a = 18
  · refine j_229t hT hE (by decide) c5 ?_
    rw [if_neg (by decide)]; exact h1 (.inr (by omega))
  refine j_229f hT hE (by decide) c5 ?_
  rw [if_pos rfl]
  exact ⟨.inl rfl, ri_i (hf (by rintro (e | e); exact c0 e; omega))⟩
theorem j_261 [Inhabited gh_] (hT : Tks Mx Mq) (hE : ER b F Mx Mq a o) (h12 : Mx 70 a = 100 → a < 1200) (ht : isN (Mx 70) a → K 1 Mq) (hf : ¬ isN (Mx 70) a → K 0 Mq) : Tr_ wd0 pg0 (d + 1) 261 [.inr (.inr 6)] Mq (ri_ K) Qt := by
  obtain ⟨e1, e2, e3, e4, e5, e6⟩ := ER_k hT hE
  have ha := ER_a hE
  refine t_261 fun V hV hW => b_261_0 (Tr_mono _) hV hW Mq ⟨e3, ?_⟩
  have no : ¬ isN (Mx 70) a → bl_ 0 ∧ ri_ K [.inl 0] Mq := fun c => ⟨.inl rfl, ri_i (hf c)⟩
  by_cases c0 : Mx 70 a = 100
  · rw [if_pos ((kq_n e1).mpr c0)]
    have h1 := h12 c0
    have q12 := hE.2.2.1
    rw [q12, w32_id (by omega) (by omega)]
    have g1 : gd_ Mx (a + 1) := gd_n hE.1 h1 (by omega) (by omega)
    have k1 := (hT (a + 1) g1).1
    refine ⟨by omega, ?_⟩
    by_cases c1 : Mq 149 (a + 1) = 3
    · rw [if_pos c1]
      refine ⟨by omega, ?_⟩
      by_cases c2 : Mq 151 (a + 1) = 58
      · have e9 : (if Mq 151 (a + 1) < 58 then (-1 : Int) else if Mq 151 (a + 1) = 58 then 0 else 1) = 0 := by rw [if_neg (by omega), if_pos c2]
        rw [if_pos e9]
        exact ⟨.inr rfl, ri_i (ht ⟨c0, (kq_s (x := 58) k1 (by decide)).mp ⟨c1, c2⟩⟩)⟩
      · have e9 : (if Mq 151 (a + 1) < 58 then (-1 : Int) else if Mq 151 (a + 1) = 58 then 0 else 1) ≠ 0 := by rw [if_neg c2]; split <;> omega
        rw [if_neg e9]
        exact no (fun e => c2 ((kq_s (x := 58) k1 (by decide)).mpr e.2).2)
    · rw [if_neg c1]
      exact no (fun e => c1 ((kq_s (x := 58) k1 (by decide)).mpr e.2).1)
  · rw [if_neg (fun c => c0 ((kq_n e1).mp c))]
    exact no (fun e => c0 e.1)
/-- from the head of Q's loop -/
theorem q_77 [Inhabited gh_] (hE : ER b F M N a o) (hV : Cl_ wd0 (Tr_ wd0 pg0 (d + 1)) V (rv_ Kv) Qt m_260) (hW : Wk_ V) (h : V 92 [rr 6, ii st, ii mk, ii me, ii c, ii 1, ii 0] [] N) : V 77 (LSz st mk me c) [] N := by
  refine b_260_77 (Tr_mono _) hV hW _ _ _ _ _ _ ?_
  rw [if_neg (by decide)]
  refine q_227g (ER_goq hE) ?_
  rw [if_pos rfl]; exact h
/-- no label here -/
theorem q_92 [Inhabited gh_] (hT : Tks M N) (hE : ER b F M N a o) (hn : c = 0 → ¬ isN (M 70) a) (h12 : c = 0 → M 70 a = 100 → a < 1200) (hV : Cl_ wd0 (Tr_ wd0 pg0 (d + 1)) V (rv_ Kv) Qt m_260) (hW : Wk_ V) (h : V 122 [rr 6, ii st, ii mk, ii me, ii c, ii 1, ii x6] [] N) : V 92 [rr 6, ii st, ii mk, ii me, ii c, ii 1, ii x6] [] N := by
  refine b_260_92 (Tr_mono _) hV hW _ _ _ _ _ _ _ ?_
  by_cases c0 : c = 0
  · rw [if_pos c0]
    refine q_227g (ER_goq hE) ?_
    rw [if_pos rfl]
    refine j_261 hT hE (h12 c0) (fun e => absurd e (hn c0)) (fun _ => ?_)
    rw [if_pos rfl]; exact h
  · rw [if_neg c0]; exact h
theorem q_92l [Inhabited gh_] (hT : Tks M N) (hE : ER b F M N a o) (hn : isN (M 70) a) (h12 : a < 1200) (hV : Cl_ wd0 (Tr_ wd0 pg0 (d + 1)) V (rv_ Kv) Qt m_260) (hW : Wk_ V) (h : Tr_ wd0 pg0 (d + 1) 262 [.inr (.inr 6), .inl me] N (rv_ fun M3 => V 92 [rr 6, ii st, ii mk, ii me, ii 0, ii 1, ii 1] [] M3) Qt) : V 92 [rr 6, ii st, ii mk, ii me, ii 0, ii 1, ii x6] [] N := by
  refine b_260_92 (Tr_mono _) hV hW _ _ _ _ _ _ _ ?_
  rw [if_pos rfl]
  refine q_227g (ER_goq hE) ?_
  rw [if_pos rfl]
  refine j_261 hT hE (fun _ => h12) (fun _ => ?_) (fun e => absurd hn e)
  rw [if_neg (by decide)]; exact h
theorem q_122l [Inhabited gh_] (hT : Tks M N) (hE : ER b F M N a o) (hn : isL (M 70) a) (hV : Cl_ wd0 (Tr_ wd0 pg0 (d + 2)) V (rv_ Kv) Qt m_260) (hW : Wk_ V) (h : Tr_ wd0 pg0 (d + 2) 264 [.inr (.inr 6), .inl me] N (rv_ fun M3 => V 77 (LSz st mk me 1) [] (up_ M3 6 103 1)) Qt) : V 122 [rr 6, ii st, ii mk, ii me, ii 0, ii 1, ii x6] [] N := by
  refine b_260_122 (Tr_mono _) hV hW _ _ _ _ _ _ _ (q_227g (ER_goq hE) ?_)
  rw [if_pos rfl, if_pos rfl]
  refine j_263 hT hE (fun _ => ?_) (fun e => absurd hn e)
  rw [if_neg (by decide)]
  exact Tr_m h (fun vs M g => ⟨g.1, .inr rfl, g.2⟩) (fun _ _ g => g)
theorem q_158 [Inhabited gh_] (hT : Tks M N) (hE : ER b F M N a o) (hn : c = 0 → ¬ isL (M 70) a) (hV : Cl_ wd0 (Tr_ wd0 pg0 (d + 2)) V (rv_ Kv) Qt m_260) (hW : Wk_ V) (h : V 158 [rr 6, ii st, ii mk, ii me, ii c, ii 1, ii x6] [] N) : V 122 [rr 6, ii st, ii mk, ii me, ii c, ii 1, ii x6] [] N := by
  refine b_260_122 (Tr_mono _) hV hW _ _ _ _ _ _ _ (q_227g (ER_goq hE) ?_)
  rw [if_pos rfl]
  by_cases c0 : c = 0
  · rw [if_pos c0]
    refine j_263 hT hE (fun e => absurd e (hn c0)) (fun _ => ?_)
    rw [if_pos rfl]; exact h
  · rw [if_neg c0]; exact h
theorem q_158d [Inhabited gh_] (hT : Tks M N) (hE : ER b F M N a o) (hk : M 70 a = 18) (hV : Cl_ wd0 (Tr_ wd0 pg0 (d + 2)) V (rv_ Kv) Qt m_260) (hW : Wk_ V) (h : Tr_ wd0 pg0 (d + 2) 269 [.inr (.inr 6)] N (rv_ fun M3 => V 77 (LSz st mk me 0) [] (up_ M3 6 103 0)) Qt) : V 158 [rr 6, ii st, ii mk, ii me, ii 0, ii 1, ii x6] [] N := by
  refine b_260_158 (Tr_mono _) hV hW _ _ _ _ _ _ _ ?_
  rw [if_pos rfl]
  refine j_229t hT hE (by decide) hk ?_
  rw [if_neg (by decide)]
  exact Tr_m h (fun vs M g => ⟨g.1, .inl rfl, g.2⟩) (fun _ _ g => g)
theorem q_158a [Inhabited gh_] (hT : Tks M N) (hE : ER b F M N a o) (hk : M 70 a ≠ 18) (hA : isA (M 70) a) (hV : Cl_ wd0 (Tr_ wd0 pg0 (d + 2)) V (rv_ Kv) Qt m_260) (hW : Wk_ V) (h : Tr_ wd0 pg0 (d + 2) 296 [.inr (.inr 6)] N (rv_ fun M3 => V 77 (LSz st mk me 0) [] (up_ M3 6 103 0)) Qt) : V 158 [rr 6, ii st, ii mk, ii me, ii 0, ii 1, ii x6] [] N := by
  refine b_260_158 (Tr_mono _) hV hW _ _ _ _ _ _ _ ?_
  rw [if_pos rfl]
  refine j_229f hT hE (by decide) hk ?_
  rw [if_pos rfl, if_pos rfl]
  refine j_295 hT hE (fun _ => ?_) (fun e => absurd hA e)
  rw [if_neg (by decide)]
  exact Tr_m h (fun vs M g => ⟨g.1, .inl rfl, g.2⟩) (fun _ _ g => g)
theorem q_158n [Inhabited gh_] (hT : Tks M N) (hE : ER b F M N a o) (hA : c = 0 → ¬ isA (M 70) a) (hV : Cl_ wd0 (Tr_ wd0 pg0 (d + 2)) V (rv_ Kv) Qt m_260) (hW : Wk_ V) (h : V 208 [rr 6, ii st, ii mk, ii me, ii c, ii 1, ii x6] [] N) : V 158 [rr 6, ii st, ii mk, ii me, ii c, ii 1, ii x6] [] N := by
  refine b_260_158 (Tr_mono _) hV hW _ _ _ _ _ _ _ ?_
  by_cases c0 : c = 0
  · have hA0 := hA c0
    rw [if_pos c0]
    refine j_229f hT hE (by decide) (fun e => hA0 (.inr (by omega))) ?_
    rw [if_pos rfl, if_pos c0]
    refine j_295 hT hE (fun e => absurd e hA0) (fun _ => ?_)
    rw [if_pos rfl]; exact h
  · rw [if_neg c0, if_neg c0]; exact h
/-- behind a part -/
theorem q_77e [Inhabited gh_] (hT : Tks M N) (hE : ER b F M N a o) (hc : c = 1 ∨ (c = 0 ∧ ¬ isA (M 70) a ∧ ¬ isL (M 70) a)) (hV : Cl_ wd0 (Tr_ wd0 pg0 (d + 2)) V (rv_ Kv) Qt m_260) (hW : Wk_ V) (h : V 208 [rr 6, ii st, ii mk, ii me, ii c, ii 1, ii 0] [] N) : V 77 (LSz st mk me c) [] N := by
  refine q_77 hE hV hW ?_
  refine q_92 hT hE (fun e hn => ?_) (fun e k => ?_) hV hW ?_
  · rcases hc with h | h
    · omega
    · exact h.2.1 (.inl hn.1)
  · rcases hc with h | h
    · omega
    · exact absurd (.inl k) h.2.1
  · refine q_158 hT hE (fun e => ?_) hV hW ?_
    · rcases hc with h | h
      · omega
      · exact h.2.2
    · refine q_158n hT hE (fun e => ?_) hV hW h
      rcases hc with h | h
      · omega
      · exact h.2.1
theorem q_208b [Inhabited gh_] (hd : N 6 102 ≠ 0) (hV : Cl_ wd0 (Tr_ wd0 pg0 (d + 2)) V (rv_ Kv) Qt m_260) (hW : Wk_ V) (h : Tr_ wd0 pg0 (d + 2) 303 [.inr (.inr 6)] N (rv_ fun M1 => V 77 (LSz st mk me 0) [] M1) Qt) : V 208 [rr 6, ii st, ii mk, ii me, ii c, ii 1, ii 0] [] N := by
  refine b_260_208 (Tr_mono _) hV hW _ _ _ _ _ _ _ ?_
  rw [if_pos rfl, if_neg hd]; exact h
end TQ
end T144_tq
