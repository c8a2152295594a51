section T430_al
/-! charts: what an alt, an or, an end do to the relation -/
section ALb
variable {b : Int} {M N M' N' M1 N1 M2 N2 : mm_} {a a' k f t x c w p i u v s l o m A W : Int}
theorem CR_bl [Inhabited fz_] (h : CR b M N a) (hA : M 0 78 = A) (hW : M 0 79 = W) (h6 : A < 6) (h3 : W < 3) (ho : BV o) (hm : (o = 0 → m = 1) ∧ 1 ≤ m ∧ m ≤ 4)
    (x0 : ∀ r, r ∉ [0, 51, 52, 53] → M' r = M r) (x1 : ∀ i, i ∉ [78, 79, 94, 95] → M' 0 i = M 0 i) (x2 : M' 0 78 = A + 1 ∧ M' 0 79 = W + 1 ∧ M' 0 94 = A ∧ M' 0 95 = 0) (x3 : ∀ r, r ∈ [51, 52, 53] → ∀ i, i ≠ A → M' r i = M r i) (x4 : M' 51 A = m ∧ M' 52 A = M 0 94 ∧ M' 53 A = M 0 95)
    (q0 : ∀ r, r ∉ [6, 262, 263, 264, 266] → N' r = N r) (q1 : ∀ i, i ∉ [172, 186] → N' 6 i = N 6 i) (q2 : N' 6 172 = A + 1 ∧ N' 6 186 = W + 1) (q3 : ∀ r, r ∈ [262, 266] → ∀ i, i ≠ A → N' r i = N r i) (q4 : ∀ r, r ∈ [263, 264] → ∀ i, i ≠ W → N' r i = N r i) (q5 : N' 262 A = m ∧ N' 266 A = o ∧ N' 263 W = A ∧ N' 264 W = 0) : CR b M' N' a := by
  subst hA hW
  obtain ⟨h1, n1, n2, n3, n4, n5, n6⟩ := h
  obtain ⟨c1, c2, ⟨c3, c4, c5⟩, c6, c7, c8⟩ := n1
  have e77 := x1 77 (by decide)
  have e92 := x1 92 (by decide)
  have sd : ∀ u v, SDR M u v → SDR M' u v := fun u v h => by unfold SDR at *; rw [e77, e92]; exact h
  refine ⟨CB_c h1 (fun r hr => x0 r ?_) (fun r hr => q0 r ?_) (x1 75 (by decide)) (q1 12 (by decide)) (q1 16 (by decide)) (fun _ => q1 13 (by decide)), ⟨?_, ?_, ⟨?_, ?_⟩, ?_, ?_⟩, ?_, ?_, ⟨⟨?_, ?_⟩, ?_⟩, ?_, ?_⟩
  · simp only [List.mem_cons, List.not_mem_nil, or_false] at hr
    rcases hr with rfl | rfl | rfl | rfl | rfl <;> decide
  · simp only [List.mem_cons, List.not_mem_nil, or_false] at hr
    rcases hr with rfl | rfl | rfl <;> decide
  · rw [e77, q1 170 (by decide)]; exact c1
  · rw [x1 76 (by decide), q1 171 (by decide)]; exact c2
  · rw [q2.1, x2.1]
  · rw [x2.1]; omega
  · rw [q2.2, x2.2.1]
  · rw [x2.2.1]; omega
  · unfold INS gdB at *; rw [e77, x0 44 (by decide), x0 45 (by decide), x0 75 (by decide), q0 254 (by decide), q0 255 (by decide), q0 151 (by decide)]; exact n2
  · intro l l0 l1
    rw [x1 76 (by decide)] at l1
    have hl := n3 l l0 l1
    unfold LIN lvL rwL at hl ⊢
    rw [x2.1, x0 46 (by decide), x0 47 (by decide), x0 48 (by decide), x0 49 (by decide), x0 50 (by decide), q0 256 (by decide), q0 257 (by decide), q0 258 (by decide), q0 259 (by decide), q0 260 (by decide), q0 261 (by decide)]
    refine ⟨sd _ _ hl.1, sd _ _ hl.2.1, hl.2.2.1, hl.2.2.2.1, hl.2.2.2.2.1, hl.2.2.2.2.2.1, fun j j0 j1 => ?_⟩
    have hj := hl.2.2.2.2.2.2 j j0 j1
    rw [x3 52 (by decide) _ (by omega), x3 53 (by decide) _ (by omega)]
    exact ⟨by omega, hj.2⟩
  · unfold levQ; rw [x2.2.1, if_neg (by omega), x2.2.2.1, show M 0 79 + 1 - 1 = M 0 79 by omega, q5.2.2.1]
  · unfold rowQ; rw [x2.2.1, if_neg (by omega), x2.2.2.2, show M 0 79 + 1 - 1 = M 0 79 by omega, q5.2.2.2]
  · intro j j0 j1
    rw [x2.2.1] at j1
    rw [x2.1]
    have lv : ∀ j, 0 ≤ j → j ≤ M 0 79 → levQ N' j = levQ N j ∧ rowQ N' j = rowQ N j := fun j j0 j1 => by
      unfold levQ rowQ
      by_cases z : j = 0
      · rw [if_pos z, if_pos z, if_pos z, if_pos z]; exact ⟨rfl, rfl⟩
      · rw [if_neg z, if_neg z, if_neg z, if_neg z, q4 263 (by decide) _ (by omega), q4 264 (by decide) _ (by omega)]; exact ⟨rfl, rfl⟩
    rw [(lv j j0 (by omega)).1, (lv j j0 (by omega)).2]
    by_cases e : j = M 0 79
    · subst e
      rw [q5.2.2.1, q5.2.2.2, x4.1, x4.2.1, x4.2.2, q5.2.1]
      refine ⟨by omega, n4.1.1, n4.1.2, by omega, fun z => by rw [hm.1 z]; rfl, fun i i0 i1 => ?_⟩
      rw [q4 263 (by decide) i (by omega)]
      exact (n4.2 i i0 i1).1.2
    · have o := n4.2 j j0 (by omega)
      rw [q4 263 (by decide) j e, q4 264 (by decide) j e, x3 51 (by decide) _ (by omega), x3 52 (by decide) _ (by omega), x3 53 (by decide) _ (by omega), q3 266 (by decide) _ (by omega)]
      refine ⟨by omega, o.2.1, o.2.2.1, o.2.2.2.1, o.2.2.2.2.1, fun i i0 i1 => ?_⟩
      rw [q4 263 (by decide) i (by omega)]
      exact o.2.2.2.2.2 i i0 i1
  · intro k k0 k1
    rw [x2.1] at k1
    by_cases e : k = M 0 78
    · subst e; rw [x4.1, q5.1, q5.2.1]; exact ⟨rfl, hm.2.1, hm.2.2, ho⟩
    · rw [x3 51 (by decide) k e, q3 262 (by decide) k e, q3 266 (by decide) k e]; exact n5 k k0 (by omega)
  · unfold NTE at *; rw [e92, x1 93 (by decide), q1 13 (by decide), q1 14 (by decide)]; exact n6
theorem CR_or [Inhabited fz_] (h : CR b M N a) (hk : N 263 (M 0 79 - 1) = k) (hW : 0 < M 0 79) (h0 : N 266 k = 0) (h4 : M 51 k < 4)
    (x0 : ∀ r, r ∉ [0, 51] → M' r = M r) (x1 : ∀ i, i ≠ 95 → M' 0 i = M 0 i) (x2 : M' 0 95 = M 51 k) (x3 : ∀ i, i ≠ k → M' 51 i = M 51 i) (x4 : M' 51 k = M 51 k + 1)
    (q0 : ∀ r, r ∉ [262, 264] → N' r = N r) (q2 : ∀ i, i ≠ k → N' 262 i = N 262 i) (q3 : N' 262 k = N 262 k + 1) (q4 : ∀ i, i ≠ M 0 79 - 1 → N' 264 i = N 264 i) (q5 : N' 264 (M 0 79 - 1) = N 264 (M 0 79 - 1) + 1) : CR b M' N' a := by
  subst hk
  obtain ⟨h1, n1, n2, n3, n4, n5, n6⟩ := h
  have top := n4.2 (M 0 79 - 1) (by omega) (by omega)
  have e77 := x1 77 (by decide)
  have e78 := x1 78 (by decide)
  have e79 := x1 79 (by decide)
  have e92 := x1 92 (by decide)
  have q6 := q0 6 (by decide)
  have sd : ∀ u v, SDR M u v → SDR M' u v := fun u v h => by unfold SDR at *; rw [e77, e92]; exact h
  refine ⟨CB_c h1 (fun r hr => x0 r ?_) (fun r hr => q0 r ?_) (x1 75 (by decide)) (by rw [q6]) (by rw [q6]) (fun _ => by rw [q6]), ?_, ?_, ?_, ⟨⟨?_, ?_⟩, ?_⟩, ?_, ?_⟩
  · simp only [List.mem_cons, List.not_mem_nil, or_false] at hr
    rcases hr with rfl | rfl | rfl | rfl | rfl <;> decide
  · simp only [List.mem_cons, List.not_mem_nil, or_false] at hr
    rcases hr with rfl | rfl | rfl <;> decide
  · unfold CNTc; rw [e77, e78, e79, x1 76 (by decide), q6]; exact n1
  · unfold INS gdB at *; rw [e77, x0 44 (by decide), x0 45 (by decide), x0 75 (by decide), q0 254 (by decide), q0 255 (by decide), q0 151 (by decide)]; exact n2
  · intro l l0 l1
    rw [x1 76 (by decide)] at l1
    have hl := n3 l l0 l1
    unfold LIN lvL rwL at hl ⊢
    rw [e78, x0 46 (by decide), x0 47 (by decide), x0 48 (by decide), x0 49 (by decide), x0 50 (by decide), x0 52 (by decide), x0 53 (by decide), q0 256 (by decide), q0 257 (by decide), q0 258 (by decide), q0 259 (by decide), q0 260 (by decide), q0 261 (by decide)]
    exact ⟨sd _ _ hl.1, sd _ _ hl.2.1, hl.2.2⟩
  · unfold levQ at *; rw [e79, x1 94 (by decide), q0 263 (by decide)]; exact n4.1.1
  · unfold rowQ; rw [e79, if_neg (by omega), x2, q5]; exact (top.2.2.2.2.1 h0).symm
  · intro j j0 j1
    rw [e79] at j1
    have o := n4.2 j j0 j1
    have lv : levQ N' j = levQ N j ∧ rowQ N' j = rowQ N j := by
      unfold levQ rowQ
      by_cases z : j = 0
      · rw [if_pos z, if_pos z, if_pos z, if_pos z]; exact ⟨rfl, rfl⟩
      · rw [if_neg z, if_neg z, if_neg z, if_neg z, q0 263 (by decide), q4 _ (by omega)]; exact ⟨rfl, rfl⟩
    rw [lv.1, lv.2, e78, x0 52 (by decide), x0 53 (by decide), q0 263 (by decide), q0 266 (by decide)]
    by_cases e : j = M 0 79 - 1
    · subst e
      rw [q5, x4]
      exact ⟨o.1, o.2.1, o.2.2.1, by omega, fun z => by have := o.2.2.2.2.1 z; omega, o.2.2.2.2.2⟩
    · have lt := top.2.2.2.2.2 j j0 (by omega)
      rw [q4 j e, x3 _ (by omega)]
      exact ⟨o.1, o.2.1, o.2.2.1, o.2.2.2.1, o.2.2.2.2.1, o.2.2.2.2.2⟩
  · intro k k0 k1
    rw [e78] at k1
    rw [q0 266 (by decide)]
    have a5 := n5 k k0 k1
    by_cases e : k = N 263 (M 0 79 - 1)
    · subst e; rw [x4, q3]; exact ⟨by omega, by omega, by omega, a5.2.2.2⟩
    · rw [x3 k e, q2 k e]; exact a5
  · unfold NTE at *; rw [e92, x1 93 (by decide), q6]; exact n6
theorem CR_en [Inhabited fz_] (h : CR b M N a) (hW : 0 < M 0 79) (hk : N 263 (M 0 79 - 1) = k) : CR b (up_ (up_ (up_ M 0 79 (M 0 79 - 1)) 0 94 (M 52 k)) 0 95 (M 53 k)) (up_ N 6 186 (M 0 79 - 1)) a := by
  subst hk
  obtain ⟨h1, n1, n2, n3, n4, n5, n6⟩ := h
  obtain ⟨c1, c2, c3, c6, c7, c8⟩ := n1
  have top := n4.2 (M 0 79 - 1) (by omega) (by omega)
  have x0 : ∀ r, r ≠ 0 → (up_ (up_ (up_ M 0 79 (M 0 79 - 1)) 0 94 (M 52 (N 263 (M 0 79 - 1)))) 0 95 (M 53 (N 263 (M 0 79 - 1)))) r = M r := fun r hr => by rw [up_ne hr, up_ne hr, up_ne hr]
  have x1 : ∀ i, i ∉ [79, 94, 95] → (up_ (up_ (up_ M 0 79 (M 0 79 - 1)) 0 94 (M 52 (N 263 (M 0 79 - 1)))) 0 95 (M 53 (N 263 (M 0 79 - 1)))) 0 i = M 0 i := fun i hi => by rw [upo (by rintro rfl; exact hi (by decide)), upo (by rintro rfl; exact hi (by decide)), upo (by rintro rfl; exact hi (by decide))]
  have y79 : (up_ (up_ (up_ M 0 79 (M 0 79 - 1)) 0 94 (M 52 (N 263 (M 0 79 - 1)))) 0 95 (M 53 (N 263 (M 0 79 - 1)))) 0 79 = M 0 79 - 1 := by rw [upo (by decide), upo (by decide), up_at]
  have y94 : (up_ (up_ (up_ M 0 79 (M 0 79 - 1)) 0 94 (M 52 (N 263 (M 0 79 - 1)))) 0 95 (M 53 (N 263 (M 0 79 - 1)))) 0 94 = levQ N (M 0 79 - 1) := by rw [upo (by decide), up_at]; exact top.2.1
  have y95 : (up_ (up_ (up_ M 0 79 (M 0 79 - 1)) 0 94 (M 52 (N 263 (M 0 79 - 1)))) 0 95 (M 53 (N 263 (M 0 79 - 1)))) 0 95 = rowQ N (M 0 79 - 1) := by rw [up_at]; exact top.2.2.1
  generalize (up_ (up_ (up_ M 0 79 (M 0 79 - 1)) 0 94 (M 52 (N 263 (M 0 79 - 1)))) 0 95 (M 53 (N 263 (M 0 79 - 1)))) = M' at *
  have q0 : ∀ r, r ≠ 6 → (up_ N 6 186 (M 0 79 - 1)) r = N r := fun r hr => up_ne hr
  have q1 : ∀ i, i ≠ 186 → (up_ N 6 186 (M 0 79 - 1)) 6 i = N 6 i := fun i hi => upo hi
  have q2 : (up_ N 6 186 (M 0 79 - 1)) 6 186 = M 0 79 - 1 := up_at
  generalize (up_ N 6 186 (M 0 79 - 1)) = N' at *
  have e77 := x1 77 (by decide)
  have e78 := x1 78 (by decide)
  have e92 := x1 92 (by decide)
  have sd : ∀ u v, SDR M u v → SDR M' u v := fun u v h => by unfold SDR at *; rw [e77, e92]; exact h
  refine ⟨CB_c h1 (fun r hr => x0 r (by rintro rfl; exact absurd hr (by decide))) (fun r hr => q0 r (by rintro rfl; exact absurd hr (by decide))) (x1 75 (by decide)) (q1 12 (by decide)) (q1 16 (by decide)) (fun _ => q1 13 (by decide)), ⟨?_, ?_, ?_, ?_, ?_⟩, ?_, ?_, ⟨⟨?_, ?_⟩, ?_⟩, ?_, ?_⟩
  · rw [e77, q1 170 (by decide)]; exact c1
  · rw [x1 76 (by decide), q1 171 (by decide)]; exact c2
  · rw [e78, q1 172 (by decide)]; exact c3
  · rw [q2, y79]
  · rw [y79]; omega
  · unfold INS gdB at *; rw [e77, x0 44 (by decide), x0 45 (by decide), x0 75 (by decide), q0 254 (by decide), q0 255 (by decide), q0 151 (by decide)]; exact n2
  · intro l l0 l1
    rw [x1 76 (by decide)] at l1
    have hl := n3 l l0 l1
    unfold LIN lvL rwL at hl ⊢
    rw [e78, x0 46 (by decide), x0 47 (by decide), x0 48 (by decide), x0 49 (by decide), x0 50 (by decide), x0 52 (by decide), x0 53 (by decide), q0 256 (by decide), q0 257 (by decide), q0 258 (by decide), q0 259 (by decide), q0 260 (by decide), q0 261 (by decide)]
    exact ⟨sd _ _ hl.1, sd _ _ hl.2.1, hl.2.2⟩
  · rw [y94, y79]; unfold levQ; rw [q0 263 (by decide)]
  · rw [y95, y79]; unfold rowQ; rw [q0 264 (by decide)]
  · intro j j0 j1
    rw [y79] at j1
    have o := n4.2 j j0 (by omega)
    unfold levQ rowQ at *
    rw [e78, x0 51 (by decide), x0 52 (by decide), x0 53 (by decide), q0 263 (by decide), q0 264 (by decide), q0 266 (by decide)]
    exact o
  · unfold ALT at *; rw [e78, x0 51 (by decide), q0 262 (by decide), q0 266 (by decide)]; exact n5
  · unfold NTE at *; rw [e92, x1 93 (by decide), q1 13 (by decide), q1 14 (by decide)]; exact n6
end ALb
end T430_al
section T431_al
/-! charts: an alt or opt (X 81 | Q 403, 404) -/
def JX (dx : Nat) (mx : md_) (px : Nat) (lx : lo_) (b : Int) (M N : mm_) (R : mm_ → mm_ → Prop) : Prop := (∃ M' N', (∀ (V : vv_) (Qr : qr_) (Qt : qt_), Cl_ wd0 (Tr_ wd0 pg0 dx) V Qr Qt mx → Wk_ V → Qr [] M' → V px lx [] M) ∧ QL N N' ∧ R M' N' ∧ XTd M M' ∧ QTd N N') ∨ (∃ M', (∀ (V : vv_) (Qr : qr_) (Qt : qt_), Cl_ wd0 (Tr_ wd0 pg0 dx) V Qr Qt mx → Wk_ V → Qt 7 M' → V px lx [] M) ∧ XTd M M' ∧ (b = 0 → ∃ N', QEc N N' ∧ FQc M' N' ∧ QTd N N'))
/-- a level is closed, those below it are as they were -/
def KPd (M N M' N' : mm_) : Prop := (M 0 78 ≤ M' 0 78 ∧ M' 0 79 = M 0 79 - 1) ∧ (∀ j, 0 ≤ j → j < M 0 79 - 1 → N' 263 j = N 263 j ∧ N' 264 j = N 264 j) ∧ ∀ k, 0 ≤ k → k < M 0 78 → N' 266 k = N 266 k
def JOd (d n : Nat) (as : List pv_) (b : Int) (M N : mm_) (R : mm_ → mm_ → Prop) : Prop := (∃ M' N', Ex_ d n as M [] M' ∧ QL N N' ∧ R M' N' ∧ XTd M M' ∧ QTd N N') ∨ (∃ M', Th d n as M M' ∧ XTd M M' ∧ (b = 0 → ∃ N', QEc N N' ∧ FQc M' N' ∧ QTd N N'))
def RWR (b : Int) (M N : mm_) (a : Int) (M' N' : mm_) : Prop := ∃ a', a ≤ a' ∧ CR b M' N' a' ∧ nst (M' 75 a') ∧ KPc M N M' N'
def ROWS (b : Int) (n : Nat) : Prop := ∀ (M N : mm_) (a : Int), CR b M N a → SGP M N → M 0 79 = 3 - (n : Int) → JOd (2 * n + 6) 77 [.inr (.inr 0)] b M N (RWR b M N a)
section ALc
variable {b : Int} {M N M' N' M1 N1 M2 N2 : mm_} {a a' k f t x c w p i u v s l o m A W : Int} {dx : Nat}
/-- from END on -/
theorem en_x [Inhabited fz_] (hd : 3 ≤ dx) (h : CR b M N a) (hn : nst (M 75 a)) (hW : 0 < M 0 79) (hk : N 263 (M 0 79 - 1) = k) (h0 : N 266 k = 0 → 0 < N 264 (M 0 79 - 1) ∧ M 75 a ≠ 43) : JX dx m_81 208 [rr 0, ii o, ii k] b M N (fun M' N' => ∃ a', a < a' ∧ CR b M' N' a' ∧ KPd M N M' N') := by
  have ha := CB_a h.1
  have e := h.1.2.2.1.1
  rcases Bd_or h.1 20 with ⟨k1, a1⟩ | ⟨f, hf⟩
  · have nk := nk_of k1 (by decide) (by decide)
    have h1 := CR_nx h nk.1 nk.2 a1
    have x1 := x_73 ha e k1 a1
    have q1 := c_230 h.1 a1
    have toQ : ∀ {V : vv_} {Qr : qr_} {Qt : qt_}, Cl_ wd0 (Tr_ wd0 pg0 5) V Qr Qt m_398 → Wk_ V → V 222 [rr 6] [] N → V 42 [rr 6] [] N := fun hV hW' g => q_en h k1 hW (fun z => (h0 (by rw [← hk]; exact z)).1) hV hW' g
    have sx1 : xsm M (up_ M 0 75 (a + 1)) := xsm_nx
    have sq1 : qsm N (nx_ N) := qsm_nx
    generalize up_ M 0 75 (a + 1) = M1 at *
    generalize nx_ N = N1 at *
    have fx1 := XTd_c (xsm_XT sx1)
    have fq1 := QTd_c (qsm_QT sq1)
    have ha1 := CB_a h1.1
    have e1 := h1.1.2.2.1.1
    have e79 : M1 0 79 = M 0 79 := sx1.2.1 79 (by decide)
    have e78 : M1 0 78 = M 0 78 := sx1.2.1 78 (by decide)
    have hk1 : N1 263 (M1 0 79 - 1) = k := by rw [e79, sq1.1 263 (by decide)]; exact hk
    have c8 := h1.2.1.2.2.2
    rcases Bd_or h1.1 259 with ⟨k2, a2⟩ | ⟨f, hf⟩
    · have nk2 := nk_of k2 (by decide) (by decide)
      have h2 := CR_nx h1 nk2.1 nk2.2 a2
      have x2 := x_76 (c := 59) ha1 e1 (by decide) k2 a2
      have q2 := c_244 h1.1 (x := 59) (by decide) k2 a2
      have sx2 : xsm M1 (up_ M1 0 75 (a + 1 + 1)) := xsm_nx
      have sq2 : qsm N1 (nx_ N1) := qsm_nx
      generalize up_ M1 0 75 (a + 1 + 1) = M2 at *
      generalize nx_ N1 = N2 at *
      have fx2 := XTd_tr fx1 (XTd_c (xsm_XT sx2))
      have fq2 := QTd_tr fq1 (QTd_c (qsm_QT sq2))
      have e792 : M2 0 79 = M 0 79 := by rw [sx2.2.1 79 (by decide)]; exact e79
      have e782 : M2 0 78 = M 0 78 := by rw [sx2.2.1 78 (by decide)]; exact e78
      have hk2 : N2 263 (M2 0 79 - 1) = k := by rw [sx2.2.1 79 (by decide), sq2.1 263 (by decide)]; exact hk1
      have c82 := h2.2.1.2.2.2
      have h3 := CR_en h2 (by omega) hk2
      have top := h2.2.2.2.2.1.2 (M2 0 79 - 1) (by omega) (by omega)
      have k6 : 0 ≤ k ∧ k < 6 := by have := h2.2.1.2.2.1; rw [hk2] at top; omega
      refine .inl ⟨_, _, fun V Qr Qt hV hW' g => b_81_208 (Tr_mono _) hV hW' _ _ _ (Ex_le (d := 2) (by omega) x1 _ _ (rv_i (Ex_le (d := 3) hd x2 _ _ (rv_i ⟨k6, k6, ?_⟩)))), fun V Qr Qt hV hW' g => toQ hV hW' (b_398_222 (Tr_mono _) hV hW' _ (Ex_le (d := 2) (by decide) q1 _ _ (rv_i (Ex_le (d := 3) (by decide) q2 _ _ (rv_i (Ex_le (d := 1) (by decide) (c_227 h2.1) _ _ (ri_i ?_))))))), ⟨_, by omega, h3, ⟨?_, ?_⟩, fun j j0 j1 => ?_, fun j j0 j1 => ?_⟩, XTd_0 (XTd_0 (XTd_0 fx2 (by decide)) (by decide)) (by decide), QTd_6 fq2 (by decide)⟩
      · rw [w32_id (by omega) (by omega)]; exact g
      · rw [if_pos rfl, c82.1, w32_id (by omega) (by omega)]; exact g
      · rw [upo (by decide), upo (by decide), upo (by decide), e782]; omega
      · rw [upo (by decide), upo (by decide), up_at, e792]
      · rw [up_ne (by decide), up_ne (by decide), sq2.1 263 (by decide), sq2.1 264 (by decide), sq1.1 263 (by decide), sq1.1 264 (by decide)]; exact ⟨rfl, rfl⟩
      · rw [up_ne (by decide), sq2.1 266 (by decide), sq1.1 266 (by decide)]
    · refine .inr ⟨bdX M1 f (M1 76 (a + 1)), fun V Qr Qt hV hW' g => b_81_208 (Tr_mono _) hV hW' _ _ _ (Ex_le (d := 2) (by omega) x1 _ _ (rv_i (Th_le (d := 3) hd (x_76b (c := 59) ha1 e1 (by decide) hf) _ _ g))), XTd_bd fx1, fun hb => ?_⟩
      have sp := sp_b (p := M1 76 (a + 1)) (CB_16 h1.1 hb) (Bd_f hf)
      refine ⟨bf_ N1 f (M1 76 (a + 1)), fun V Qr Qt hV hW' g => toQ hV hW' (b_398_222 (Tr_mono _) hV hW' _ (Ex_le (d := 2) (by decide) q1 _ _ (rv_i (Ex_le (d := 3) (by decide) (c_244b h1.1 hb (x := 59) (by decide) hf) _ _ (rv_i (Ex_le (d := 1) (by decide) (s_227 sp) _ _ (ri_i ?_))))))), FQc_b (CB_16 h1.1 hb) (Bd_f hf), QTd_bf fq1⟩
      rw [if_neg (by decide)]; exact QEc_s sp V Qr Qt hV hW' g
  · refine .inr ⟨bdX M f (M 76 a), fun V Qr Qt hV hW' g => b_81_208 (Tr_mono _) hV hW' _ _ _ (Th_le (d := 2) (by omega) (x_73b ha e hf) _ _ g), XTd_bd XTd_rf, fun hb => ?_⟩
    have sp := sp_b (p := M 76 a) (CB_16 h.1 hb) (Bd_f hf)
    refine ⟨bf_ N f (M 76 a), ?_, FQc_b (CB_16 h.1 hb) (Bd_f hf), QTd_bf QTd_rf⟩
    rcases hf with ⟨f1, rfl⟩ | ⟨f1, f2, rfl⟩
    · exact q_wr h hb hn (.inl hW) (fun z _ y => (h0 (by rw [← hk]; exact y)).2 z) (fun z => absurd z f1)
    · intro V Qr Qt hV hW' g
      refine q_en h f1 hW (fun z => (h0 (by rw [← hk]; exact z)).1) hV hW' (b_398_222 (Tr_mono _) hV hW' _ (Ex_le (d := 2) (by decide) (c_230b h.1 hb f2) _ _ (rv_i (Ex_le (d := 3) (by decide) (s_244 sp) _ _ (rv_i (Ex_le (d := 1) (by decide) (s_227 sp) _ _ (ri_i ?_)))))))
      rw [if_neg (by decide)]; exact QEc_s sp V Qr Qt hV hW' g
theorem KPd_c [Inhabited fz_] (h : KPc M N M1 N1) (g : KPd M1 N1 M2 N2) : KPd M N M2 N2 := ⟨⟨Int.le_trans h.1.1 g.1.1, by rw [g.1.2, h.1.2]⟩, fun j j0 j1 => by
  have := g.2.1 j j0 (by rw [h.1.2]; exact j1)
  rw [this.1, this.2]; exact h.2.1 j j0 (by omega), fun k k0 k1 => by rw [g.2.2 k k0 (by have := h.1.1; omega)]; exact h.2.2 k k0 k1⟩
/-- the rows behind an OR -/
theorem or_x [Inhabited fz_] {n : Nat} (hR : ROWS b n) (hd : 2 * n + 6 ≤ dx) : ∀ (q : Nat) (M N : mm_) (a : Int), CR b M N a → SGP M N → nst (M 75 a) → M 0 79 = 3 - (n : Int) → 0 < M 0 79 → N 263 (M 0 79 - 1) = k → N 266 k = 0 → (0 < N 264 (M 0 79 - 1) ∨ M 75 a = 43) → 4 - M 51 k = q → JX dx m_81 146 [rr 0, ii o, ii k] b M N (fun M' N' => ∃ a', a < a' ∧ CR b M' N' a' ∧ KPd M N M' N') := by
  intro q
  induction q with
  | zero =>
    intro M N a h hS hn hW hW0 hk h0 hr hq
    have ha := CB_a h.1
    have e := h.1.2.2.1.1
    have top := h.2.2.2.2.1.2 (M 0 79 - 1) (by omega) (by omega)
    have k6 : 0 ≤ k ∧ k < 6 := by have := h.2.1.2.2.1; rw [hk] at top; omega
    by_cases c : M 75 a = 43
    · refine .inr ⟨bdX M 2 (M 76 a), fun V Qr Qt hV hW' g => b_81_146 (Tr_mono _) hV hW' _ _ _ (Ex_le (d := 1) (by omega) (x_74t ha e c) _ _ (ri_i ?_)), XTd_bd XTd_rf, fun hb => ?_⟩
      · rw [if_neg (by decide)]
        refine ⟨k6, ?_⟩
        rw [if_pos (by omega), e]
        refine Ex_le (d := 1) (by omega) (x_75c ha) _ _ (rf_i ?_)
        rw [if_neg (by decide)]; exact g
      · have sp := sp_b (p := M 76 a) (f := 2) (CB_16 h.1 hb) (by decide)
        refine ⟨bf_ N 2 (M 76 a), fun V Qr Qt hV hW' g => q_ns h hn (by omega) hV hW' (fun _ _ _ => t_404 fun V' hV' hW'' => b_404_0 (Tr_mono _) hV' hW'' _ ?_) (fun z => absurd (by rw [hk]; exact h0) (z c hW0)), FQc_b (CB_16 h.1 hb) (by decide), QTd_bf QTd_rf⟩
        have e186 := h.2.1.2.2.2
        have al := h.2.2.2.2.2.1 k k6.1 (by rw [hk] at top; exact top.1.2)
        rw [e186.1, w32_id (by omega) (by omega), hk]
        refine ⟨by omega, k6, ?_⟩
        rw [if_pos (by omega), (CB_k h.1).2.1]
        exact ⟨(CB_k h.1).2.2, Ex_le (d := 1) (by decide) (c_231 h.1 hb) _ _ (rv_i (rv_i (QEc_s sp V Qr Qt hV hW' g)))⟩
    · rcases en_x (dx := dx) (o := o) (by omega) h hn hW0 hk (fun _ => ⟨hr.resolve_right c, c⟩) with ⟨M', N', gx, r⟩ | ⟨M', gx, r⟩
      · refine .inl ⟨M', N', fun V Qr Qt hV hW' g => b_81_146 (Tr_mono _) hV hW' _ _ _ (Ex_le (d := 1) (by omega) (x_74f ha e c) _ _ (ri_i ?_)), r⟩
        rw [if_pos rfl]; exact gx V Qr Qt hV hW' g
      · refine .inr ⟨M', fun V Qr Qt hV hW' g => b_81_146 (Tr_mono _) hV hW' _ _ _ (Ex_le (d := 1) (by omega) (x_74f ha e c) _ _ (ri_i ?_)), r⟩
        rw [if_pos rfl]; exact gx V Qr Qt hV hW' g
  | succ q ih =>
    intro M N a h hS hn hW hW0 hk h0 hr hq
    have ha := CB_a h.1
    have e := h.1.2.2.1.1
    have top := h.2.2.2.2.1.2 (M 0 79 - 1) (by omega) (by omega)
    have k6 : 0 ≤ k ∧ k < 6 := by have := h.2.1.2.2.1; rw [hk] at top; omega
    have al := h.2.2.2.2.2.1 k k6.1 (by rw [hk] at top; exact top.1.2)
    by_cases c : M 75 a = 43
    · have e186 := h.2.1.2.2.2
      by_cases a1 : a < 1200
      · have nk := nk_of c (by decide) (by decide)
        have h1 := CR_nx h nk.1 nk.2 a1
        have x1 := x_73 ha e c a1
        have q1 := c_230 h.1 a1
        have sx1 : xsm M (up_ M 0 75 (a + 1)) := xsm_nx
        have sq1 : qsm N (nx_ N) := qsm_nx
        generalize up_ M 0 75 (a + 1) = M1 at *
        generalize nx_ N = N1 at *
        have e51 : M1 51 = M 51 := sx1.1 51 (by decide)
        have e79 : M1 0 79 = M 0 79 := sx1.2.1 79 (by decide)
        have e78 : M1 0 78 = M 0 78 := sx1.2.1 78 (by decide)
        have f263 : N1 263 = N 263 := sq1.1 263 (by decide)
        have f264 : N1 264 = N 264 := sq1.1 264 (by decide)
        have f262 : N1 262 = N 262 := sq1.1 262 (by decide)
        have f266 : N1 266 = N 266 := sq1.1 266 (by decide)
        have f186 : N1 6 186 = N 6 186 := sq1.2 186 (by decide)
        have hk1 : N1 263 (M1 0 79 - 1) = k := by rw [e79, f263]; exact hk
        have r0 := top.2.2.2.2.1 (by rw [hk]; exact h0)
        rw [hk] at r0
        -- both take the row
        have h2 : CR b (up_ (up_ M1 0 95 (M1 51 k)) 51 k (M1 51 k + 1)) (up_ (up_ N1 262 k (N1 262 k + 1)) 264 (M1 0 79 - 1) (N1 264 (M1 0 79 - 1) + 1)) (a + 1) := by
          refine CR_or h1 hk1 (by omega) (by rw [f266]; exact h0) (by rw [e51]; omega) (fun r hr => ?_) (fun i hi => ?_) ?_ (fun i hi => ?_) ?_ (fun r hr => ?_) (fun i hi => ?_) ?_ (fun i hi => ?_) ?_
          · rw [up_ne (by rintro rfl; exact hr (by decide)), up_ne (by rintro rfl; exact hr (by decide))]
          · rw [up_ne (by decide), upo hi]
          · rw [up_ne (by decide), up_at]
          · rw [upo hi, up_ne (by decide)]
          · rw [up_at]
          · rw [up_ne (by rintro rfl; exact hr (by decide)), up_ne (by rintro rfl; exact hr (by decide))]
          · rw [up_ne (by decide), upo hi]
          · rw [up_ne (by decide), up_at]
          · rw [upo hi, up_ne (by decide)]
          · rw [up_at]
        have fx2 : XTd M (up_ (up_ M1 0 95 (M1 51 k)) 51 k (M1 51 k + 1)) := XTd_r (XTd_0 (XTd_c (xsm_XT sx1)) (by decide)) (by decide) (by decide)
        have fq2 : QTd N (up_ (up_ N1 262 k (N1 262 k + 1)) 264 (M1 0 79 - 1) (N1 264 (M1 0 79 - 1) + 1)) := QTd_r (QTd_r (QTd_c (qsm_QT sq1)) (by decide) (by decide)) (by decide) (by decide)
        have toQ : QL N (up_ (up_ N1 262 k (N1 262 k + 1)) 264 (M1 0 79 - 1) (N1 264 (M1 0 79 - 1) + 1)) := fun V Qr Qt hV hW' g => q_ns h hn (by omega) hV hW' (fun _ _ _ => t_404 fun V' hV' hW'' => b_404_0 (Tr_mono _) hV' hW'' _ (by
          rw [e186.1, w32_id (by omega) (by omega), hk]
          refine ⟨by omega, k6, ?_⟩
          rw [if_neg (by omega)]
          refine Ex_le (d := 2) (by decide) q1 _ _ (rv_i (Ex_le (d := 1) (by decide) (c_227 h1.1) _ _ (ri_i ?_)))
          rw [if_pos rfl, f186, e186.1, w32_id (x := M 0 79 - 1) (by omega) (by omega), w32_id (x := N1 262 k + 1) (by rw [f262]; omega) (by rw [f262]; omega), w32_id (x := N1 264 (M 0 79 - 1) + 1) (by rw [f264]; omega) (by rw [f264]; omega)]
          rw [e79] at g
          exact ⟨k6, k6, by omega, by omega, rv_i g⟩)) (fun z => absurd (by rw [hk]; exact h0) (z c hW0))
        have y79 : (up_ (up_ M1 0 95 (M1 51 k)) 51 k (M1 51 k + 1)) 0 79 = M 0 79 := by rw [up_ne (by decide), upo (by decide)]; exact e79
        have y78 : (up_ (up_ M1 0 95 (M1 51 k)) 51 k (M1 51 k + 1)) 0 78 = M 0 78 := by rw [up_ne (by decide), upo (by decide)]; exact e78
        have y51 : (up_ (up_ M1 0 95 (M1 51 k)) 51 k (M1 51 k + 1)) 51 k = M 51 k + 1 := by rw [up_at, e51]
        have z263 : (up_ (up_ N1 262 k (N1 262 k + 1)) 264 (M1 0 79 - 1) (N1 264 (M1 0 79 - 1) + 1)) 263 = N 263 := by rw [up_ne (by decide), up_ne (by decide)]; exact f263
        have z264 : ∀ j, j ≠ M 0 79 - 1 → (up_ (up_ N1 262 k (N1 262 k + 1)) 264 (M1 0 79 - 1) (N1 264 (M1 0 79 - 1) + 1)) 264 j = N 264 j := fun j hj => by rw [upo (by omega), up_ne (by decide), f264]
        have z264' : (up_ (up_ N1 262 k (N1 262 k + 1)) 264 (M1 0 79 - 1) (N1 264 (M1 0 79 - 1) + 1)) 264 (M 0 79 - 1) = N 264 (M 0 79 - 1) + 1 := by rw [e79, up_at, f264]
        have z266 : (up_ (up_ N1 262 k (N1 262 k + 1)) 264 (M1 0 79 - 1) (N1 264 (M1 0 79 - 1) + 1)) 266 = N 266 := by rw [up_ne (by decide), up_ne (by decide)]; exact f266
        have hX : ∀ (V : vv_) (Qr : qr_) (Qt : qt_), Cl_ wd0 (Tr_ wd0 pg0 dx) V Qr Qt m_81 → Wk_ V → Tr_ wd0 pg0 dx 77 [.inr (.inr 0)] (up_ (up_ M1 0 95 (M1 51 k)) 51 k (M1 51 k + 1)) (rv_ fun M3 => V 146 [rr 0, ii o, ii k] [] M3) Qt → V 146 [rr 0, ii o, ii k] [] M := fun V Qr Qt hV hW' g => b_81_146 (Tr_mono _) hV hW' _ _ _ (Ex_le (d := 1) (by omega) (x_74t ha e c) _ _ (ri_i (by
          rw [if_neg (by decide)]
          refine ⟨k6, ?_⟩
          rw [if_neg (by omega)]
          refine Ex_le (d := 2) (by omega) x1 _ _ (rv_i ⟨k6, k6, k6, ?_⟩)
          rw [w32_id (by rw [e51]; omega) (by rw [e51]; omega)]; exact g)))
        generalize (up_ (up_ M1 0 95 (M1 51 k)) 51 k (M1 51 k + 1)) = M2 at *
        generalize (up_ (up_ N1 262 k (N1 262 k + 1)) 264 (M1 0 79 - 1) (N1 264 (M1 0 79 - 1) + 1)) = N2 at *
        have S2 := SGP_d hS fx2 fq2
        rcases hR M2 N2 (a + 1) h2 S2 (by omega) with ⟨M3, N3, g1, g2, ⟨a3, a31, h3, n3, kp3⟩, fx3, fq3⟩ | ⟨M3, g1, fx3, gb⟩
        · have w3 : M3 0 79 = M 0 79 := by rw [kp3.1.2]; exact y79
          have t3 := kp3.2.1 (M 0 79 - 1) (by omega) (by omega)
          have k3 : N3 263 (M3 0 79 - 1) = k := by rw [w3, t3.1, z263]; exact hk
          have o3 : N3 266 k = 0 := by rw [kp3.2.2 k k6.1 (by rw [y78]; rw [hk] at top; exact top.1.2), z266]; exact h0
          have r3 : N3 264 (M3 0 79 - 1) = N 264 (M 0 79 - 1) + 1 := by rw [w3, t3.2, z264']
          have top3 := h3.2.2.2.2.1.2 (M3 0 79 - 1) (by omega) (by omega)
          have m3 : M3 51 k = M 51 k + 1 := by
            have := top3.2.2.2.2.1 (by rw [k3]; exact o3)
            rw [k3] at this; omega
          rcases ih M3 N3 a3 h3 (SGP_d S2 fx3 fq3) n3 (by omega) (by omega) k3 o3 (.inl (by omega)) (by omega) with ⟨M', N', gx, gq, ⟨a', aa, hC, kd⟩, fx, fq⟩ | ⟨M', gx, fx, gb⟩
          · refine .inl ⟨M', N', fun V Qr Qt hV hW' g => hX V Qr Qt hV hW' (Ex_le hd g1 _ _ (rv_i (gx V Qr Qt hV hW' g))), RC_tr (RC_tr toQ g2) gq, ⟨a', by omega, hC, ⟨by have := kd.1.1; have := kp3.1.1; omega, by rw [kd.1.2, w3]⟩, fun j j0 j1 => ?_, fun j j0 j1 => ?_⟩, XTd_tr fx2 (XTd_tr fx3 fx), QTd_tr fq2 (QTd_tr fq3 fq)⟩
            · have u1 := kd.2.1 j j0 (by omega)
              have u2 := kp3.2.1 j j0 (by omega)
              rw [u1.1, u1.2, u2.1, u2.2, z263, z264 j (by omega)]; exact ⟨rfl, rfl⟩
            · rw [kd.2.2 j j0 (by have := kp3.1.1; omega), kp3.2.2 j j0 (by omega), z266]
          · refine .inr ⟨M', fun V Qr Qt hV hW' g => hX V Qr Qt hV hW' (Ex_le hd g1 _ _ (rv_i (gx V Qr Qt hV hW' g))), XTd_tr fx2 (XTd_tr fx3 fx), fun hb => ?_⟩
            obtain ⟨N', gq, hF, fq⟩ := gb hb
            exact ⟨N', QL_E (RC_tr toQ g2) gq, hF, QTd_tr fq2 (QTd_tr fq3 fq)⟩
        · refine .inr ⟨M3, fun V Qr Qt hV hW' g => hX V Qr Qt hV hW' (Th_le hd g1 _ _ g), XTd_tr fx2 fx3, fun hb => ?_⟩
          obtain ⟨N', gq, hF, fq⟩ := gb hb
          exact ⟨N', QL_E toQ gq, hF, QTd_tr fq2 fq⟩
      · have e12 : a = 1200 := by omega
        refine .inr ⟨bdX M 2 (M 76 a), fun V Qr Qt hV hW' g => b_81_146 (Tr_mono _) hV hW' _ _ _ (Ex_le (d := 1) (by omega) (x_74t ha e c) _ _ (ri_i ?_)), XTd_bd XTd_rf, fun hb => ?_⟩
        · rw [if_neg (by decide)]
          refine ⟨k6, ?_⟩
          rw [if_neg (by omega)]
          exact Th_le (d := 2) (by omega) (x_73b ha e (.inr ⟨c, e12, rfl⟩)) _ _ g
        · have sp := sp_b (p := M 76 a) (f := 2) (CB_16 h.1 hb) (by decide)
          refine ⟨bf_ N 2 (M 76 a), fun V Qr Qt hV hW' g => q_ns h hn (by omega) hV hW' (fun _ _ _ => t_404 fun V' hV' hW'' => b_404_0 (Tr_mono _) hV' hW'' _ ?_) (fun z => absurd (by rw [hk]; exact h0) (z c hW0)), FQc_b (CB_16 h.1 hb) (by decide), QTd_bf QTd_rf⟩
          rw [e186.1, w32_id (by omega) (by omega), hk]
          refine ⟨by omega, k6, ?_⟩
          rw [if_neg (by omega)]
          refine Ex_le (d := 2) (by decide) (c_230b h.1 hb e12) _ _ (rv_i (Ex_le (d := 1) (by decide) (s_227 sp) _ _ (ri_i ?_)))
          rw [if_neg (by decide)]
          exact rv_i (QEc_s sp V Qr Qt hV hW' g)
    · rcases en_x (dx := dx) (o := o) (by omega) h hn hW0 hk (fun _ => ⟨hr.resolve_right c, c⟩) with ⟨M', N', gx, r⟩ | ⟨M', gx, r⟩
      · refine .inl ⟨M', N', fun V Qr Qt hV hW' g => b_81_146 (Tr_mono _) hV hW' _ _ _ (Ex_le (d := 1) (by omega) (x_74f ha e c) _ _ (ri_i ?_)), r⟩
        rw [if_pos rfl]; exact gx V Qr Qt hV hW' g
      · refine .inr ⟨M', fun V Qr Qt hV hW' g => b_81_146 (Tr_mono _) hV hW' _ _ _ (Ex_le (d := 1) (by omega) (x_74f ha e c) _ _ (ri_i ?_)), r⟩
        rw [if_pos rfl]; exact gx V Qr Qt hV hW' g
end ALc
end T431_al
section T432_al
/-! charts: an alt or opt whole, all rows (X 81, 77 | Q 398) -/
section ALd
variable {b : Int} {M N M' N' M1 N1 M2 N2 : mm_} {a a' k f t x c w p i u v s l o m A W : Int}
/-- Q writes a block -/
def blQ (N : mm_) (A W o m : Int) : mm_ := up_ (up_ (up_ (up_ N 266 A o) 262 A m) 263 W A) 264 W 0
theorem q_403 [Inhabited fz_] (h : CB b M N a) (hA : N 6 172 = A) (hW : N 6 186 = W) (h6 : 0 ≤ A ∧ A < 6) (h3 : 0 ≤ W ∧ W < 3) (ho : (o = 1 ∧ m = 2 ∧ M 75 a = 47) ∨ (o = 0 ∧ m = 1 ∧ M 75 a ≠ 47)) {V : vv_} {Qr : qr_} {Qt : qt_} (hV : Cl_ wd0 (Tr_ wd0 pg0 4) V Qr Qt m_403) (hW' : Wk_ V) (g : V 73 [rr 6] [] (up_ (up_ N 266 A o) 262 A m)) : V 0 [rr 6] [] N := b_403_0 (Tr_mono _) hV hW' _ (by
  rw [if_neg (by omega), if_neg (by omega)]
  have e : ∀ x, (up_ N 266 A x) 266 A = x := fun x => up_at
  rcases ho with ⟨rfl, rfl, c⟩ | ⟨rfl, rfl, c⟩
  · refine Ex_le (d := 1) (by decide) (c_229t h (w := 47) (by decide) c) _ _ (ri_i ?_)
    rw [hA, e]
    refine ⟨⟨by omega, .inr rfl⟩, by omega, fun _ => ?_⟩
    rw [if_neg (by decide)]
    exact ⟨by omega, g⟩
  · refine Ex_le (d := 1) (by decide) (c_229f h (w := 47) (by decide) c) _ _ (ri_i ?_)
    rw [hA, e]
    refine ⟨⟨by omega, .inl rfl⟩, by omega, fun _ => ?_⟩
    rw [if_pos rfl]
    exact ⟨by omega, g⟩)
theorem KPc_bl [Inhabited fz_] (hA : M 0 78 = A) (hW : M 0 79 = W) (e1 : M1 0 78 = A + 1) (e2 : M1 0 79 = W + 1) (q1 : ∀ j, j ≠ W → N1 263 j = N 263 j ∧ N1 264 j = N 264 j) (q2 : ∀ j, j ≠ A → N1 266 j = N 266 j) (g : KPd M1 N1 M2 N2) : KPc M N M2 N2 := by
  refine ⟨⟨by have := g.1.1; omega, by rw [g.1.2]; omega⟩, fun j j0 j1 => ?_, fun j j0 j1 => ?_⟩
  · have := g.2.1 j j0 (by omega)
    rw [this.1, this.2]; exact q1 j (by omega)
  · rw [g.2.2 j j0 (by omega)]; exact q2 j (by omega)
theorem j_81 [Inhabited fz_] {n : Nat} (hR : ∀ n' : Nat, n = n' + 1 → ROWS b n') (h : CR b M N a) (hS : SGP M N) (hw : M 0 79 = 3 - (n : Int)) (hk : M 75 a = 46 ∨ M 75 a = 47) : JOd (2 * n + 5) 81 [.inr (.inr 0)] b M N (fun M' N' => ∃ a', a < a' ∧ CR b M' N' a' ∧ KPc M N M' N') := by
  have ha := CB_a h.1
  have e := h.1.2.2.1.1
  obtain ⟨_, _, ⟨c1, c2, c3⟩, c4, c5, c6⟩ := h.2.1
  have i9 := (CB_k h.1).2.2
  have toQ : ∀ {N'}, Ex_ 5 403 [.inr (.inr 6)] N [] N' → QL N N' := fun g V Qr Qt hV hW z => q_bl h.1 hk hV hW (g _ _ (rv_i z))
  obtain ⟨o, o1, o2, xo⟩ := x_74 (k := 47) ha e
  by_cases r6 : M 0 78 = 6 ∨ M 0 79 = 3
  · refine .inr ⟨bdX M 2 (M 76 a), fun Qr Qt g => t_81 fun V hV hW => b_81_0 (Tr_mono _) hV hW _ (Ex_le (d := 1) (by omega) xo _ _ (ri_i ?_)), XTd_bd XTd_rf, fun hb => ?_⟩
    · rw [e]
      by_cases z : M 0 78 = 6
      · rw [if_pos z]
        refine Ex_le (d := 1) (by omega) (x_75c ha) _ _ (rf_i ?_)
        rw [if_neg (by decide)]; exact g
      · rw [if_neg z, if_pos (r6.resolve_left z)]
        refine Ex_le (d := 1) (by omega) (x_75c ha) _ _ (rf_i ?_)
        rw [if_neg (by decide)]; exact g
    · have sp := sp_b (p := M 76 a) (f := 2) (CB_16 h.1 hb) (by decide)
      refine ⟨_, QL_E (toQ (N' := bf_ N 2 (M 76 a)) fun Qr Qt g => t_403 fun V hV hW => b_403_0 (Tr_mono _) hV hW _ ?_) (QEc_s sp), FQc_b (CB_16 h.1 hb) (by decide), QTd_bf QTd_rf⟩
      rw [(CB_k h.1).2.1]
      by_cases z : M 0 78 = 6
      · rw [if_pos (by omega)]
        exact ⟨i9, Ex_le (d := 1) (by decide) (c_231 h.1 hb) _ _ (rv_i g)⟩
      · rw [if_neg (by omega), if_pos (by omega)]
        exact ⟨i9, Ex_le (d := 1) (by decide) (c_231 h.1 hb) _ _ (rv_i g)⟩
  have n6 : M 0 78 < 6 := by omega
  have n3 : M 0 79 < 3 := by omega
  obtain ⟨n', rfl⟩ : ∃ n', n = n' + 1 := ⟨n - 1, by omega⟩
  have hR := hR n' rfl
  obtain ⟨m, hm⟩ : ∃ m : Int, (o = 1 ∧ m = 2 ∧ M 75 a = 47) ∨ (o = 0 ∧ m = 1 ∧ M 75 a ≠ 47) := by
    rcases o1 with z | z
    · exact ⟨1, .inr ⟨z, rfl, fun y => by have := o2.2 y; omega⟩⟩
    · exact ⟨2, .inl ⟨z, rfl, o2.1 z⟩⟩
  -- X's first step
  have kx : M 75 a = (if o = 0 then 46 else 47) := by
    rcases hm with ⟨z, _, y⟩ | ⟨z, _, y⟩
    · rw [if_neg (by omega)]; exact y
    · rw [if_pos z]; omega
  have px : ∀ (V : vv_) (Qr : qr_) (Qt : qt_), Cl_ wd0 (Tr_ wd0 pg0 (2 * (n' + 1) + 4)) V Qr Qt m_81 → Wk_ V → Tr_ wd0 pg0 (2 * (n' + 1) + 4) 73 [.inr (.inr 0), .inl (if o = 0 then 46 else 47)] M (rv_ fun M3 => V 49 [rr 0, ii o, none] [] M3) Qt → V 0 [rr 0, none, none] [] M := fun V Qr Qt hV hW g => b_81_0 (Tr_mono _) hV hW _ (Ex_le (d := 1) (by omega) xo _ _ (ri_i (by
    rw [if_neg (by omega), if_neg (by omega)]
    by_cases z : o = 0
    · rw [if_pos z]; rw [if_pos z] at g; exact g
    · rw [if_neg z]; rw [if_neg z] at g; exact g)))
  -- Q's writes
  have bl : ∀ r, r ∉ [262, 263, 264, 266] → blQ N (M 0 78) (M 0 79) o m r = N r := fun r hr => by
    unfold blQ
    rw [up_ne (by rintro rfl; exact hr (by decide)), up_ne (by rintro rfl; exact hr (by decide)), up_ne (by rintro rfl; exact hr (by decide)), up_ne (by rintro rfl; exact hr (by decide))]
  have b1 : ∀ i, i ≠ M 0 78 → blQ N (M 0 78) (M 0 79) o m 262 i = N 262 i ∧ blQ N (M 0 78) (M 0 79) o m 266 i = N 266 i := fun i hi => by
    unfold blQ
    rw [up_ne (by decide), up_ne (by decide), upo hi, up_ne (by decide), up_ne (by decide), up_ne (by decide), up_ne (by decide), upo hi]; exact ⟨rfl, rfl⟩
  have b2 : ∀ i, i ≠ M 0 79 → blQ N (M 0 78) (M 0 79) o m 263 i = N 263 i ∧ blQ N (M 0 78) (M 0 79) o m 264 i = N 264 i := fun i hi => by
    unfold blQ
    rw [up_ne (by decide), upo hi, up_ne (by decide), up_ne (by decide), upo hi, up_ne (by decide), up_ne (by decide), up_ne (by decide)]; exact ⟨rfl, rfl⟩
  have b3 : blQ N (M 0 78) (M 0 79) o m 262 (M 0 78) = m ∧ blQ N (M 0 78) (M 0 79) o m 266 (M 0 78) = o ∧ blQ N (M 0 78) (M 0 79) o m 263 (M 0 79) = M 0 78 ∧ blQ N (M 0 78) (M 0 79) o m 264 (M 0 79) = 0 := by
    unfold blQ
    rw [up_ne (r' := 262) (by decide), up_ne (r' := 262) (by decide), up_at, up_ne (r' := 266) (by decide), up_ne (r' := 266) (by decide), up_ne (r' := 266) (by decide), up_at, up_ne (r' := 263) (by decide), up_at, up_at]; exact ⟨rfl, rfl, rfl, rfl⟩
  have fqb : QTd N (blQ N (M 0 78) (M 0 79) o m) := QTd_r (QTd_r (QTd_r (QTd_r QTd_rf (by decide) (by decide)) (by decide) (by decide)) (by decide) (by decide)) (by decide) (by decide)
  have hB : CB b M (blQ N (M 0 78) (M 0 79) o m) a := CB_c h.1 (fun _ _ => rfl) (fun r hr => bl r (by
    simp only [List.mem_cons, List.not_mem_nil, or_false] at hr
    rcases hr with rfl | rfl | rfl <;> decide)) rfl (by rw [bl 6 (by decide)]) (by rw [bl 6 (by decide)]) (fun _ => by rw [bl 6 (by decide)])
  have pq : ∀ (V : vv_) (Qr : qr_) (Qt : qt_), Cl_ wd0 (Tr_ wd0 pg0 4) V Qr Qt m_403 → Wk_ V → Tr_ wd0 pg0 4 230 [.inr (.inr 6)] (blQ N (M 0 78) (M 0 79) o m) (rv_ fun M1 => Tr_ wd0 pg0 4 227 [.inr (.inr 6)] M1 (ri_ fun v1 M2 => if v1 = 0 then Qr [] (up_ (up_ M2 6 172 (w32 ((M2 6 172) + 1))) 6 186 (w32 ((M2 6 186) + 1))) else Qr [] M2) Qt) Qt → V 0 [rr 6] [] N := fun V Qr Qt hV hW g => q_403 h.1 c1 c4 (by omega) (by omega) hm hV hW (b_403_73 (Tr_mono _) hV hW _ (by
    have e6 : (up_ (up_ N 266 (M 0 78) o) 262 (M 0 78) m) 6 = N 6 := by rw [up_ne (by decide), up_ne (by decide)]
    have e7 : (up_ (up_ (up_ N 266 (M 0 78) o) 262 (M 0 78) m) 263 (M 0 79) (M 0 78)) 6 = N 6 := by rw [up_ne (by decide)]; exact e6
    rw [e6, c4, c1]
    exact ⟨by omega, by omega, g⟩))
  generalize blQ N (M 0 78) (M 0 79) o m = Nb at *
  by_cases a1 : a < 1200
  · have nk : M 75 a ≠ 102 ∧ M 75 a ≠ 103 := by omega
    have x1 := x_73 ha e kx a1
    have q1 := c_230 hB a1
    have hC := CB_nx hB nk.1 nk.2 a1
    have h1 := CR_nx h nk.1 nk.2 a1
    -- the two new memories
    have sx1 : xsm M (up_ M 0 75 (a + 1)) := xsm_nx
    generalize up_ M 0 75 (a + 1) = M1 at *
    have e78 : M1 0 78 = M 0 78 := sx1.2.1 78 (by decide)
    have e79 : M1 0 79 = M 0 79 := sx1.2.1 79 (by decide)
    have hX : ∀ (V : vv_) (Qr : qr_) (Qt : qt_), Cl_ wd0 (Tr_ wd0 pg0 (2 * (n' + 1) + 4)) V Qr Qt m_81 → Wk_ V → Tr_ wd0 pg0 (2 * (n' + 1) + 4) 77 [.inr (.inr 0)] (up_ (up_ (up_ (up_ (up_ (up_ (up_ M1 0 78 (M 0 78 + 1)) 52 (M 0 78) (M1 0 94)) 53 (M 0 78) (M1 0 95)) 51 (M 0 78) m) 0 79 (M 0 79 + 1)) 0 94 (M 0 78)) 0 95 0) (rv_ fun M1 => if o = 0 then Tr_ wd0 pg0 (2 * (n' + 1) + 4) 74 [.inr (.inr 0), .inl 43] M1 (ri_ fun v1 M2 => (if v1 = 0 then Tr_ wd0 pg0 (2 * (n' + 1) + 4) 75 [.inr (.inr 0), .inl 1, .inl (M2 0 75)] M2 (rf_r fun v2 M3 => (if v2 = 1999 then False else Qt v2 M3)) Qt else V 146 [rr 0, ii o, ii (M 0 78)] [] M2)) Qt else V 208 [rr 0, ii o, ii (M 0 78)] [] M1) Qt → V 0 [rr 0, none, none] [] M := fun V Qr Qt hV hW g => px V Qr Qt hV hW (Ex_le (d := 2) (by omega) x1 _ _ (rv_i (b_81_49 (Tr_mono _) hV hW _ _ (by
      rw [e78, w32_id (by omega) (by omega)]
      refine ⟨by omega, by omega, ?_⟩
      have e79' : ∀ z, (up_ (up_ (up_ (up_ M1 0 78 (M 0 78 + 1)) 52 (M 0 78) (M1 0 94)) 53 (M 0 78) (M1 0 95)) 51 (M 0 78) z) 0 79 = M 0 79 := fun z => by rw [up_ne (by decide), up_ne (by decide), up_ne (by decide), upo (by decide)]; exact e79
      rcases hm with ⟨z, rfl, _⟩ | ⟨z, rfl, _⟩
      · rw [if_neg (by omega)]
        refine ⟨by omega, b_81_99 (Tr_mono _) hV hW _ _ _ ?_⟩
        rw [e79', w32_id (by omega) (by omega)]; exact g
      · rw [if_pos z]
        refine ⟨by omega, b_81_99 (Tr_mono _) hV hW _ _ _ ?_⟩
        rw [e79', w32_id (by omega) (by omega)]; exact g))))
    have hQ : QL N (up_ (up_ (nx_ Nb) 6 172 (M 0 78 + 1)) 6 186 (M 0 79 + 1)) := toQ fun Qr Qt g => t_403 fun V hV hW => pq V Qr Qt hV hW (Ex_le (d := 2) (by decide) q1 _ _ (rv_i (Ex_le (d := 1) (by decide) (c_227 hC) _ _ (ri_i (by
      have u1 : nx_ Nb 6 172 = M 0 78 := by unfold nx_; rw [upo (by decide), bl 6 (by decide)]; exact c1
      have u2 : nx_ Nb 6 186 = M 0 79 := by unfold nx_; rw [upo (by decide), bl 6 (by decide)]; exact c4
      rw [if_pos rfl, u1, u2, w32_id (by omega) (by omega), w32_id (by omega) (by omega)]; exact g)))))
    have y0 : ∀ r, r ∉ [0, 51, 52, 53] → (up_ (up_ (up_ (up_ (up_ (up_ (up_ M1 0 78 (M 0 78 + 1)) 52 (M 0 78) (M1 0 94)) 53 (M 0 78) (M1 0 95)) 51 (M 0 78) m) 0 79 (M 0 79 + 1)) 0 94 (M 0 78)) 0 95 0) r = M1 r := fun r hr => by
      simp only [List.mem_cons, List.not_mem_nil, or_false, not_or] at hr
      rw [up_ne hr.1, up_ne hr.1, up_ne hr.1, up_ne hr.2.1, up_ne hr.2.2.2, up_ne hr.2.2.1, up_ne hr.1]
    have y1 : ∀ i, i ∉ [78, 79, 94, 95] → (up_ (up_ (up_ (up_ (up_ (up_ (up_ M1 0 78 (M 0 78 + 1)) 52 (M 0 78) (M1 0 94)) 53 (M 0 78) (M1 0 95)) 51 (M 0 78) m) 0 79 (M 0 79 + 1)) 0 94 (M 0 78)) 0 95 0) 0 i = M1 0 i := fun i hi => by
      simp only [List.mem_cons, List.not_mem_nil, or_false, not_or] at hi
      rw [upo hi.2.2.2, upo hi.2.2.1, upo hi.2.1, up_ne (by decide), up_ne (by decide), up_ne (by decide), upo hi.1]
    have y2 : (up_ (up_ (up_ (up_ (up_ (up_ (up_ M1 0 78 (M 0 78 + 1)) 52 (M 0 78) (M1 0 94)) 53 (M 0 78) (M1 0 95)) 51 (M 0 78) m) 0 79 (M 0 79 + 1)) 0 94 (M 0 78)) 0 95 0) 0 78 = M 0 78 + 1 ∧ (up_ (up_ (up_ (up_ (up_ (up_ (up_ M1 0 78 (M 0 78 + 1)) 52 (M 0 78) (M1 0 94)) 53 (M 0 78) (M1 0 95)) 51 (M 0 78) m) 0 79 (M 0 79 + 1)) 0 94 (M 0 78)) 0 95 0) 0 79 = M 0 79 + 1 ∧ (up_ (up_ (up_ (up_ (up_ (up_ (up_ M1 0 78 (M 0 78 + 1)) 52 (M 0 78) (M1 0 94)) 53 (M 0 78) (M1 0 95)) 51 (M 0 78) m) 0 79 (M 0 79 + 1)) 0 94 (M 0 78)) 0 95 0) 0 94 = M 0 78 ∧ (up_ (up_ (up_ (up_ (up_ (up_ (up_ M1 0 78 (M 0 78 + 1)) 52 (M 0 78) (M1 0 94)) 53 (M 0 78) (M1 0 95)) 51 (M 0 78) m) 0 79 (M 0 79 + 1)) 0 94 (M 0 78)) 0 95 0) 0 95 = 0 := by
      refine ⟨?_, ?_, ?_, up_at⟩
      · rw [upo (by decide), upo (by decide), upo (by decide), up_ne (by decide), up_ne (by decide), up_ne (by decide), up_at]
      · rw [upo (by decide), upo (by decide), up_at]
      · rw [upo (by decide), up_at]
    have y3 : ∀ r, r ∈ [51, 52, 53] → ∀ i, i ≠ M 0 78 → (up_ (up_ (up_ (up_ (up_ (up_ (up_ M1 0 78 (M 0 78 + 1)) 52 (M 0 78) (M1 0 94)) 53 (M 0 78) (M1 0 95)) 51 (M 0 78) m) 0 79 (M 0 79 + 1)) 0 94 (M 0 78)) 0 95 0) r i = M1 r i := fun r hr i hi => by
      simp only [List.mem_cons, List.not_mem_nil, or_false] at hr
      rcases hr with rfl | rfl | rfl
      · rw [up_ne (by decide), up_ne (by decide), up_ne (by decide), upo hi, up_ne (by decide), up_ne (by decide), up_ne (by decide)]
      · rw [up_ne (by decide), up_ne (by decide), up_ne (by decide), up_ne (by decide), up_ne (by decide), upo hi, up_ne (by decide)]
      · rw [up_ne (by decide), up_ne (by decide), up_ne (by decide), up_ne (by decide), upo hi, up_ne (by decide), up_ne (by decide)]
    have y4 : (up_ (up_ (up_ (up_ (up_ (up_ (up_ M1 0 78 (M 0 78 + 1)) 52 (M 0 78) (M1 0 94)) 53 (M 0 78) (M1 0 95)) 51 (M 0 78) m) 0 79 (M 0 79 + 1)) 0 94 (M 0 78)) 0 95 0) 51 (M 0 78) = m ∧ (up_ (up_ (up_ (up_ (up_ (up_ (up_ M1 0 78 (M 0 78 + 1)) 52 (M 0 78) (M1 0 94)) 53 (M 0 78) (M1 0 95)) 51 (M 0 78) m) 0 79 (M 0 79 + 1)) 0 94 (M 0 78)) 0 95 0) 52 (M 0 78) = M1 0 94 ∧ (up_ (up_ (up_ (up_ (up_ (up_ (up_ M1 0 78 (M 0 78 + 1)) 52 (M 0 78) (M1 0 94)) 53 (M 0 78) (M1 0 95)) 51 (M 0 78) m) 0 79 (M 0 79 + 1)) 0 94 (M 0 78)) 0 95 0) 53 (M 0 78) = M1 0 95 := by
      refine ⟨?_, ?_, ?_⟩
      · rw [up_ne (by decide), up_ne (by decide), up_ne (by decide), up_at]
      · rw [up_ne (by decide), up_ne (by decide), up_ne (by decide), up_ne (by decide), up_ne (by decide), up_at]
      · rw [up_ne (by decide), up_ne (by decide), up_ne (by decide), up_ne (by decide), up_at]
    have z0 : ∀ r, r ≠ 6 → (up_ (up_ (nx_ Nb) 6 172 (M 0 78 + 1)) 6 186 (M 0 79 + 1)) r = Nb r := fun r hr => by unfold nx_; rw [up_ne hr, up_ne hr, up_ne hr]
    have z1 : ∀ i, i ∉ [172, 186] → (up_ (up_ (nx_ Nb) 6 172 (M 0 78 + 1)) 6 186 (M 0 79 + 1)) 6 i = nx_ N 6 i := fun i hi => by
      simp only [List.mem_cons, List.not_mem_nil, or_false, not_or] at hi
      rw [upo hi.2, upo hi.1]
      unfold nx_
      rw [bl 6 (by decide)]
      by_cases z : i = 12
      · subst z; rw [up_at, up_at]
      · rw [upo z, upo z, bl 6 (by decide)]
    have z2 : (up_ (up_ (nx_ Nb) 6 172 (M 0 78 + 1)) 6 186 (M 0 79 + 1)) 6 172 = M 0 78 + 1 ∧ (up_ (up_ (nx_ Nb) 6 172 (M 0 78 + 1)) 6 186 (M 0 79 + 1)) 6 186 = M 0 79 + 1 := ⟨by rw [upo (by decide), up_at], up_at⟩
    have fx2 : XTd M (up_ (up_ (up_ (up_ (up_ (up_ (up_ M1 0 78 (M 0 78 + 1)) 52 (M 0 78) (M1 0 94)) 53 (M 0 78) (M1 0 95)) 51 (M 0 78) m) 0 79 (M 0 79 + 1)) 0 94 (M 0 78)) 0 95 0) := XTd_0 (XTd_0 (XTd_0 (XTd_r (XTd_r (XTd_r (XTd_0 (XTd_c (xsm_XT sx1)) (by decide)) (by decide) (by decide)) (by decide) (by decide)) (by decide) (by decide)) (by decide)) (by decide)) (by decide)
    have fq2 : QTd N (up_ (up_ (nx_ Nb) 6 172 (M 0 78 + 1)) 6 186 (M 0 79 + 1)) := QTd_6 (QTd_6 (QTd_6 fqb (by decide)) (by decide)) (by decide)
    generalize (up_ (up_ (up_ (up_ (up_ (up_ (up_ M1 0 78 (M 0 78 + 1)) 52 (M 0 78) (M1 0 94)) 53 (M 0 78) (M1 0 95)) 51 (M 0 78) m) 0 79 (M 0 79 + 1)) 0 94 (M 0 78)) 0 95 0) = M2 at *
    generalize (up_ (up_ (nx_ Nb) 6 172 (M 0 78 + 1)) 6 186 (M 0 79 + 1)) = N2 at *
    have nxr : ∀ r, r ≠ 6 → nx_ N r = N r := fun r hr => by unfold nx_; rw [up_ne hr]
    have h2 : CR b M2 N2 (a + 1) := by
      refine CR_bl (o := o) (m := m) h1 e78 e79 n6 n3 o1 ⟨fun z => by omega, by omega, by omega⟩ y0 y1 y2 y3 y4 (fun r hr => ?_) z1 z2 (fun r hr i hi => ?_) (fun r hr i hi => ?_) ?_
      · simp only [List.mem_cons, List.not_mem_nil, or_false, not_or] at hr
        rw [z0 r hr.1, bl r (by simp only [List.mem_cons, List.not_mem_nil, or_false, not_or]; exact hr.2), nxr r hr.1]
      · simp only [List.mem_cons, List.not_mem_nil, or_false] at hr
        rcases hr with rfl | rfl
        · rw [z0 262 (by decide), (b1 i hi).1, nxr 262 (by decide)]
        · rw [z0 266 (by decide), (b1 i hi).2, nxr 266 (by decide)]
      · simp only [List.mem_cons, List.not_mem_nil, or_false] at hr
        rcases hr with rfl | rfl
        · rw [z0 263 (by decide), (b2 i hi).1, nxr 263 (by decide)]
        · rw [z0 264 (by decide), (b2 i hi).2, nxr 264 (by decide)]
      · rw [z0 262 (by decide), z0 263 (by decide), z0 264 (by decide), z0 266 (by decide)]; exact b3
    have S2 := SGP_d hS fx2 fq2
    have kb : ∀ {M' N'}, KPd M2 N2 M' N' → KPc M N M' N' := fun g => KPc_bl rfl rfl y2.1 y2.2.1 (fun j hj => by rw [z0 263 (by decide), z0 264 (by decide)]; exact b2 j hj) (fun j hj => by rw [z0 266 (by decide)]; exact (b1 j hj).2) g
    -- its rows
    rcases hR M2 N2 (a + 1) h2 S2 (by omega) with ⟨M3, N3, g1, g2, ⟨a3, a31, h3, ns3, kp3⟩, fx3, fq3⟩ | ⟨M3, g1, fx3, gb⟩
    · have w3 : M3 0 79 = M 0 79 + 1 := by rw [kp3.1.2, y2.2.1]
      have t3 := kp3.2.1 (M 0 79) (by omega) (by omega)
      have k3 : N3 263 (M3 0 79 - 1) = M 0 78 := by rw [w3, show M 0 79 + 1 - 1 = M 0 79 by omega, t3.1, z0 263 (by decide)]; exact b3.2.2.1
      have r3 : N3 264 (M3 0 79 - 1) = 0 := by rw [w3, show M 0 79 + 1 - 1 = M 0 79 by omega, t3.2, z0 264 (by decide)]; exact b3.2.2.2
      have o3 : N3 266 (M 0 78) = o := by rw [kp3.2.2 (M 0 78) (by omega) (by omega), z0 266 (by decide)]; exact b3.2.1
      have S3 := SGP_d S2 fx3 fq3
      have ha3 := CB_a h3.1
      have e3 := h3.1.2.2.1.1
      by_cases oz : o = 0
      · have top3 := h3.2.2.2.2.1.2 (M3 0 79 - 1) (by omega) (by omega)
        have m3 : M3 51 (M 0 78) = 1 := by
          have := top3.2.2.2.2.1 (by rw [k3, o3]; exact oz)
          rw [k3] at this; omega
        by_cases c43 : M3 75 a3 = 43
        · rcases or_x (k := M 0 78) (o := o) (dx := 2 * (n' + 1) + 4) hR (by omega) 3 M3 N3 a3 h3 S3 ns3 (by omega) (by omega) k3 (by rw [o3]; exact oz) (.inr c43) (by omega) with ⟨M', N', gx, gq, ⟨a', aa, hC', kd⟩, fx, fq⟩ | ⟨M', gx, fx, gb⟩
          · refine .inl ⟨M', N', fun Qr Qt g => t_81 fun V hV hW => hX V Qr Qt hV hW (Ex_le (d := 2 * n' + 6) (by omega) g1 _ _ (rv_i ?_)), RC_tr (RC_tr hQ g2) gq, ⟨a', by omega, hC', kb (KPd_c kp3 kd)⟩, XTd_tr fx2 (XTd_tr fx3 fx), QTd_tr fq2 (QTd_tr fq3 fq)⟩
            rw [if_pos oz]
            refine Ex_le (d := 1) (by omega) (x_74t ha3 e3 c43) _ _ (ri_i ?_)
            rw [if_neg (by decide)]; exact gx V Qr Qt hV hW g
          · refine .inr ⟨M', fun Qr Qt g => t_81 fun V hV hW => hX V Qr Qt hV hW (Ex_le (d := 2 * n' + 6) (by omega) g1 _ _ (rv_i ?_)), XTd_tr fx2 (XTd_tr fx3 fx), fun hb => ?_⟩
            · rw [if_pos oz]
              refine Ex_le (d := 1) (by omega) (x_74t ha3 e3 c43) _ _ (ri_i ?_)
              rw [if_neg (by decide)]; exact gx V Qr Qt hV hW g
            · obtain ⟨N', gq, hF, fq⟩ := gb hb
              exact ⟨N', QL_E (RC_tr hQ g2) gq, hF, QTd_tr fq2 (QTd_tr fq3 fq)⟩
        · refine .inr ⟨bdX M3 1 (M3 76 a3), fun Qr Qt g => t_81 fun V hV hW => hX V Qr Qt hV hW (Ex_le (d := 2 * n' + 6) (by omega) g1 _ _ (rv_i ?_)), XTd_bd (XTd_tr fx2 fx3), fun hb => ?_⟩
          · rw [if_pos oz]
            refine Ex_le (d := 1) (by omega) (x_74f ha3 e3 c43) _ _ (ri_i ?_)
            rw [if_pos rfl, e3]
            refine Ex_le (d := 1) (by omega) (x_75c ha3) _ _ (rf_i ?_)
            rw [if_neg (by decide)]; exact g
          · exact ⟨_, QL_E (RC_tr hQ g2) (q_wr h3 hb ns3 (.inl (by omega)) (fun z => absurd z c43) (fun _ _ => ⟨by rw [k3, o3]; exact oz, by omega⟩)), FQc_b (CB_16 h3.1 hb) (by decide), QTd_bf (QTd_tr fq2 fq3)⟩
      · rcases en_x (dx := 2 * (n' + 1) + 4) (o := o) (by omega) h3 ns3 (by omega) k3 (fun z => by omega) with ⟨M', N', gx, gq, ⟨a', aa, hC', kd⟩, fx, fq⟩ | ⟨M', gx, fx, gb⟩
        · refine .inl ⟨M', N', fun Qr Qt g => t_81 fun V hV hW => hX V Qr Qt hV hW (Ex_le (d := 2 * n' + 6) (by omega) g1 _ _ (rv_i ?_)), RC_tr (RC_tr hQ g2) gq, ⟨a', by omega, hC', kb (KPd_c kp3 kd)⟩, XTd_tr fx2 (XTd_tr fx3 fx), QTd_tr fq2 (QTd_tr fq3 fq)⟩
          rw [if_neg oz]; exact gx V Qr Qt hV hW g
        · refine .inr ⟨M', fun Qr Qt g => t_81 fun V hV hW => hX V Qr Qt hV hW (Ex_le (d := 2 * n' + 6) (by omega) g1 _ _ (rv_i ?_)), XTd_tr fx2 (XTd_tr fx3 fx), fun hb => ?_⟩
          · rw [if_neg oz]; exact gx V Qr Qt hV hW g
          · obtain ⟨N', gq, hF, fq⟩ := gb hb
            exact ⟨N', QL_E (RC_tr hQ g2) gq, hF, QTd_tr fq2 (QTd_tr fq3 fq)⟩
    · refine .inr ⟨M3, fun Qr Qt g => t_81 fun V hV hW => hX V Qr Qt hV hW (Th_le (d := 2 * n' + 6) (by omega) g1 _ _ g), XTd_tr fx2 fx3, fun hb => ?_⟩
      obtain ⟨N', gq, hF, fq⟩ := gb hb
      exact ⟨N', QL_E hQ gq, hF, QTd_tr fq2 fq⟩
  · have e12 : a = 1200 := by omega
    refine .inr ⟨bdX M 2 (M 76 a), fun Qr Qt g => t_81 fun V hV hW => px V Qr Qt hV hW (Th_le (d := 2) (by omega) (x_73b ha e (.inr ⟨kx, e12, rfl⟩)) _ _ g), XTd_bd XTd_rf, fun hb => ?_⟩
    have sp := sp_b (p := M 76 a) (f := 2) (CB_16 hB hb) (by decide)
    refine ⟨_, QL_E (toQ (N' := bf_ Nb 2 (M 76 a)) fun Qr Qt g => t_403 fun V hV hW => pq V Qr Qt hV hW (Ex_le (d := 2) (by decide) (c_230b hB hb e12) _ _ (rv_i (Ex_le (d := 1) (by decide) (s_227 sp) _ _ (ri_i ?_))))) (QEc_s sp), FQc_b (CB_16 hB hb) (by decide), QTd_bf fqb⟩
    rw [if_neg (by decide)]; exact g
end ALd
end T432_al
section T433_rw
/-! charts: all rows of lines (X 77 | Q 398's loop) -/
section RWa
variable {b : Int} {M N M' N' M1 N1 M2 N2 : mm_} {a a' k f t x c w p i u v s l o m A W : Int}
theorem JO_d [Inhabited fz_] {d n : Nat} {as : List pv_} (h : JO d n as b M N (fun M' N' => ∃ a', a < a' ∧ CR b M' N' a')) {d' : Nat} (hd : d ≤ d') : JOd d' n as b M N (fun M' N' => ∃ a', a < a' ∧ CR b M' N' a' ∧ KPc M N M' N') := by
  rcases h with ⟨M', N', g1, g2, ⟨a', g3, g4⟩, g5, g6⟩ | ⟨M', g1, g2, g3⟩
  · exact .inl ⟨M', N', Ex_le hd g1, g2, ⟨a', g3, g4, KPc_c g5 g6⟩, XTd_c g5, QTd_c g6⟩
  · refine .inr ⟨M', Th_le hd g1, XTd_c g2, fun hb => ?_⟩
    obtain ⟨N', y1, y2, y3⟩ := g3 hb
    exact ⟨N', y1, y2, QTd_c y3⟩
/-- the loop, given what one round does -/
theorem rw_l [Inhabited fz_] {n : Nat} (hR : ∀ n' : Nat, n = n' + 1 → ROWS b n') : ∀ (q : Nat) (M N : mm_) (a : Int), CR b M N a → SGP M N → M 0 79 = 3 - (n : Int) → 1200 - a < q → JX (2 * n + 5) m_77 2 [rr 0, ii 1] b M N (RWR b M N a) := by
  intro q
  induction q with
  | zero => intro M N a h _ _ hq; have := CB_a h.1; omega
  | succ q ih =>
    intro M N a h hS hw hq
    have ha := CB_a h.1
    have e := h.1.2.2.1.1
    -- one round more
    have more : ∀ (nx : Nat), JOd (2 * n + 5) nx [.inr (.inr 0)] b M N (fun M' N' => ∃ a', a < a' ∧ CR b M' N' a' ∧ KPc M N M' N') → (∀ (V : vv_) (Qr : qr_) (Qt : qt_), Cl_ wd0 (Tr_ wd0 pg0 (2 * n + 5)) V Qr Qt m_77 → Wk_ V → Tr_ wd0 pg0 (2 * n + 5) nx [.inr (.inr 0)] M (rv_ fun M10 => V 2 [rr 0, ii 1] [] M10) Qt → V 2 [rr 0, ii 1] [] M) → JX (2 * n + 5) m_77 2 [rr 0, ii 1] b M N (RWR b M N a) := fun nx hj hx => by
      rcases hj with ⟨M1, N1, g1, g2, ⟨a1, g3, g4, g5⟩, g6, g7⟩ | ⟨M1, g1, g2, g3⟩
      · rcases ih M1 N1 a1 g4 (SGP_d hS g6 g7) (by rw [g5.1.2]; exact hw) (by omega) with ⟨M', N', y1, y2, ⟨a', y3, y4, y5, y6⟩, y7, y8⟩ | ⟨M', y1, y2, y3⟩
        · exact .inl ⟨M', N', fun V Qr Qt hV hW g => hx V Qr Qt hV hW (g1 _ _ (rv_i (y1 V Qr Qt hV hW g))), RC_tr g2 y2, ⟨a', by omega, y4, y5, KPc_tr g5 y6⟩, XTd_tr g6 y7, QTd_tr g7 y8⟩
        · refine .inr ⟨M', fun V Qr Qt hV hW g => hx V Qr Qt hV hW (g1 _ _ (rv_i (y1 V Qr Qt hV hW g))), XTd_tr g6 y2, fun hb => ?_⟩
          obtain ⟨N', z1, z2, z3⟩ := y3 hb
          exact ⟨N', QL_E g2 z1, z2, QTd_tr g7 z3⟩
      · exact .inr ⟨M1, fun V Qr Qt hV hW g => hx V Qr Qt hV hW (g1 _ _ g), g2, g3⟩
    by_cases c1 : M 75 a = 45
    · refine more 78 (JO_d (j_78 h c1) (by omega)) fun V Qr Qt hV hW g => b_77_2 (Tr_mono _) hV hW _ _ ?_
      rw [if_neg (by decide)]
      refine Ex_le (d := 1) (by omega) (x_74t ha e c1) _ _ (ri_i ?_)
      rw [if_neg (by decide)]; exact g
    · by_cases c2 : M 75 a = 46
      · refine more 81 (j_81 hR h hS hw (.inl c2)) fun V Qr Qt hV hW g => b_77_2 (Tr_mono _) hV hW _ _ ?_
        rw [if_neg (by decide)]
        refine Ex_le (d := 1) (by omega) (x_74f ha e c1) _ _ (ri_i ?_)
        rw [if_pos rfl]
        refine Ex_le (d := 1) (by omega) (x_74t ha e c2) _ _ (ri_i ?_)
        rw [if_neg (by decide)]; exact g
      · by_cases c3 : M 75 a = 47
        · refine more 81 (j_81 hR h hS hw (.inr c3)) fun V Qr Qt hV hW g => b_77_2 (Tr_mono _) hV hW _ _ ?_
          rw [if_neg (by decide)]
          refine Ex_le (d := 1) (by omega) (x_74f ha e c1) _ _ (ri_i ?_)
          rw [if_pos rfl]
          refine Ex_le (d := 1) (by omega) (x_74f ha e c2) _ _ (ri_i ?_)
          rw [if_pos rfl]
          refine Ex_le (d := 1) (by omega) (x_74t ha e c3) _ _ (ri_i ?_)
          rw [if_neg (by decide)]; exact g
        · have pre : ∀ (V : vv_) (Qr : qr_) (Qt : qt_), Cl_ wd0 (Tr_ wd0 pg0 (2 * n + 5)) V Qr Qt m_77 → Wk_ V → Tr_ wd0 pg0 (2 * n + 5) 74 [.inr (.inr 0), .inl 100] M (ri_ fun v4 M5 => (if v4 = 0 then Tr_ wd0 pg0 (2 * n + 5) 74 [.inr (.inr 0), .inl 25] M5 (ri_ fun v5 M7 => (if v5 = 0 then V 2 [rr 0, ii 0] [] M7 else Tr_ wd0 pg0 (2 * n + 5) 82 [.inr (.inr 0)] M7 (rv_ fun M8 => V 2 [rr 0, ii 1] [] M8) Qt)) Qt else Tr_ wd0 pg0 (2 * n + 5) 82 [.inr (.inr 0)] M5 (rv_ fun M6 => V 2 [rr 0, ii 1] [] M6) Qt)) Qt → V 2 [rr 0, ii 1] [] M := fun V Qr Qt hV hW g => b_77_2 (Tr_mono _) hV hW _ _ (by
            rw [if_neg (by decide)]
            refine Ex_le (d := 1) (by omega) (x_74f ha e c1) _ _ (ri_i ?_)
            rw [if_pos rfl]
            refine Ex_le (d := 1) (by omega) (x_74f ha e c2) _ _ (ri_i ?_)
            rw [if_pos rfl]
            refine Ex_le (d := 1) (by omega) (x_74f ha e c3) _ _ (ri_i ?_)
            rw [if_pos rfl]; exact g)
          by_cases c4 : M 75 a = 100
          · refine more 82 (JO_d (j_82 h hS (.inl c4)) (by omega)) fun V Qr Qt hV hW g => pre V Qr Qt hV hW (Ex_le (d := 1) (by omega) (x_74t ha e c4) _ _ (ri_i ?_))
            rw [if_neg (by decide)]; exact g
          · by_cases c5 : M 75 a = 25
            · refine more 82 (JO_d (j_82 h hS (.inr c5)) (by omega)) fun V Qr Qt hV hW g => pre V Qr Qt hV hW (Ex_le (d := 1) (by omega) (x_74f ha e c4) _ _ (ri_i ?_))
              rw [if_pos rfl]
              refine Ex_le (d := 1) (by omega) (x_74t ha e c5) _ _ (ri_i ?_)
              rw [if_neg (by decide)]; exact g
            · refine .inl ⟨M, N, fun V Qr Qt hV hW g => pre V Qr Qt hV hW (Ex_le (d := 1) (by omega) (x_74f ha e c4) _ _ (ri_i ?_)), RC_rf, ⟨a, Int.le_refl _, h, ⟨c1, c4, c5, c2, c3⟩, KPc_rf⟩, XTd_rf, QTd_rf⟩
              rw [if_pos rfl]
              refine Ex_le (d := 1) (by omega) (x_74f ha e c5) _ _ (ri_i ?_)
              rw [if_pos rfl]
              refine b_77_2 (Tr_mono _) hV hW _ _ ?_
              rw [if_pos rfl]; exact g
theorem rows_n [Inhabited fz_] : ∀ n : Nat, ROWS b n
  | 0 => fun M N a h hS hw => by
    rcases rw_l (n := 0) (fun n' e => absurd e (by omega)) (1202 - a).toNat M N a h hS hw (by have := CB_a h.1; omega) with ⟨M', N', g1, g⟩ | ⟨M', g1, g⟩
    · exact .inl ⟨M', N', fun Qr Qt z => t_77 fun V hV hW => b_77_0 (Tr_mono _) hV hW _ (g1 V Qr Qt hV hW z), g⟩
    · exact .inr ⟨M', fun Qr Qt z => t_77 fun V hV hW => b_77_0 (Tr_mono _) hV hW _ (g1 V Qr Qt hV hW z), g⟩
  | n + 1 => fun M N a h hS hw => by
    rcases rw_l (n := n + 1) (fun n' e => (show n = n' by omega) ▸ rows_n n) (1202 - a).toNat M N a h hS hw (by have := CB_a h.1; omega) with ⟨M', N', g1, g⟩ | ⟨M', g1, g⟩
    · exact .inl ⟨M', N', fun Qr Qt z => t_77 fun V hV hW => b_77_0 (Tr_mono _) hV hW _ (g1 V Qr Qt hV hW z), g⟩
    · exact .inr ⟨M', fun Qr Qt z => t_77 fun V hV hW => b_77_0 (Tr_mono _) hV hW _ (g1 V Qr Qt hV hW z), g⟩
end RWa
end T433_rw
section T434_nm
/-! what Q's value of a name's token is, by X's text -/
theorem Tks_hB [Inhabited fz_] {Mx Mq : mm_} {g : Int → Int} {n : Int} {m m' : Nat} (hn0 : 0 ≤ n) (hn : n ≤ 5000) (hb : ∀ i, 0 ≤ i → i < 5000 → -128 ≤ Mx 74 i ∧ Mx 74 i ≤ 127) (hag : Ag_ g (Mx 74) n) (hT : TXB Mx (Mx 74) n m) (hm1 : 1 ≤ m) (hm2 : kd_ (Mx 74) n (m - 1) = 102 ∨ m = 1202) (hQ : QT_ Mq g n m') : ∀ i, gdB Mx i → Mx 75 i = 100 → Mq 151 i = hs_ (Mx 74) (Mx 76 i) (Mx 77 i - Mx 76 i).toNat ∧ (∀ j : Nat, j < (Mx 77 i - Mx 76 i).toNat → 0 < cd_ (Mx 74 (Mx 76 i + j) % 256)) ∧ 1 ≤ Mx 77 i - Mx 76 i ∧ Mx 77 i - Mx 76 i ≤ 10 := by
  have hps : ∀ i, ps_ g n i = ps_ (Mx 74) n i := ps_ag hag hn0
  have hX : ∀ i : Nat, (i : Int) ≤ 1200 → (∀ j : Int, 0 ≤ j → j < i → Mx 75 j ≠ 102 ∧ Mx 75 j ≠ 103) → i < m := by
    intro i hi hj
    refine Classical.byContradiction fun h => ?_
    rcases hm2 with h1 | h1
    · have h2 := (hT (m - 1) (by omega)).2.1
      have := (hj ((m - 1 : Nat) : Int) (by omega) (by omega)).1
      rw [h2, h1] at this
      exact this rfl
    · omega
  have hK : ∀ i : Nat, (i : Int) ≤ 1200 → (∀ j : Int, 0 ≤ j → j < i → Mx 75 j ≠ 102 ∧ Mx 75 j ≠ 103) → ∀ k : Nat, k < i → kd_ (Mx 74) n k ≠ 102 ∧ kd_ (Mx 74) n k ≠ 103 := by
    intro i hi hj k hk
    have h1 := hX i hi hj
    have h2 := (hT k (by omega)).2.1
    have := hj k (by omega) (by omega)
    rw [h2] at this
    exact this
  have hqq : ∀ i : Nat, (i : Int) ≤ 1200 → (∀ j : Int, 0 ≤ j → j < i → Mx 75 j ≠ 102 ∧ Mx 75 j ≠ 103) → i < m' := by
    intro i hi hj
    refine Classical.byContradiction fun h => ?_
    obtain ⟨h1, h2, h3, h4, h5⟩ := hQ
    have h6 := hK i hi hj (m' - 1) (by omega)
    rw [hps] at h5
    have h7 : ps_ (Mx 74) n (m' - 1) < n := Classical.byContradiction fun h8 => h6.1 (kd_102.mpr h8)
    rcases h5 with h5 | h5 | h5
    · exact h5 h7
    · have h8 := kq_at (f := Mx 74) h7
      rw [qo_ag hag (ps_r (Mx 74) n hn0 _).1 h7] at h5
      rw [h5] at h8
      unfold KQ at h8
      have : (tkk_ (Mx 74) n (ps_ (Mx 74) n (m' - 1))).1 = 103 := by omega
      exact h6.2 this
    · omega
  have hY : ∀ i : Nat, gdB Mx i → Mx 76 i = ps_ (Mx 74) n i ∧ Mx 75 i = kd_ (Mx 74) n i ∧ Mx 77 i = en9_ (Mx 74) n i ∧ (dg_ (by_ (Mx 74) n (ps_ (Mx 74) n i)) = 1 → Mx 78 i = uv_ (Mx 74) (ps_ (Mx 74) n i) (ue_ (Mx 74) n (ps_ (Mx 74) n i) - ps_ (Mx 74) n i).toNat) ∧ Mq 150 i = ps_ (Mx 74) n i ∧ KQ (kd_ (Mx 74) n i) (Mq 149 i) (Mq 151 i) ∧ (ps_ (Mx 74) n i < n → Mq 151 i = (qo_ (Mx 74) n (ps_ (Mx 74) n i)).2.1) ∧ (∀ k : Nat, k < i → kd_ (Mx 74) n k ≠ 102) := by
    intro i hi
    have h1 := hT i (hX i hi.2.1 hi.2.2)
    have h2 := hQ.1 i (hqq i hi.2.1 hi.2.2)
    rw [hps] at h2
    refine ⟨h1.1, h1.2.1, h1.2.2.1, h1.2.2.2, h2.1, ?_, ?_, fun k hk => (hK i hi.2.1 hi.2.2 k hk).1⟩
    · by_cases h3 : ps_ (Mx 74) n i < n
      · have h4 := h2.2.1 h3
        rw [qo_ag hag (ps_r (Mx 74) n hn0 _).1 h3] at h4
        rw [h4.1, h4.2]; exact kq_at h3
      · rw [(h2.2.2 h3).1]
        have : kd_ (Mx 74) n i = 102 := kd_102.mpr h3
        rw [this]; exact .inr (.inr (.inl ⟨rfl, rfl⟩))
    · intro h3
      have h4 := h2.2.1 h3
      rw [qo_ag hag (ps_r (Mx 74) n hn0 _).1 h3] at h4
      exact h4.2
  intro i hi h1
  obtain ⟨i', rfl⟩ := Int.eq_ofNat_of_zero_le hi.1
  have h := hY i' hi
  rw [h.2.1] at h1
  have h2 := nm_at h1
  rw [h.2.2.2.2.2.2.1 h2.2.1, h2.2.2.2.2, h.1, h.2.2.1]
  unfold en9_
  rw [h2.2.2.1]
  have h3 : ps_ (Mx 74) n i' + 1 ≤ ne_ (Mx 74) n (ps_ (Mx 74) n i') := by
    rw [ne_, dif_pos (cd_w h2.1)]; exact ne_ge _ _ _
  exact ⟨rfl, fun j hj => (ne_in (Mx 74) n (ps_ (Mx 74) n i') _ (by omega) (by omega)).1, by omega, by omega⟩
end T434_nm
section T435_tx
/-! charts: the text whole -/
/-- X's names of what is loaded, and Q's -/
def NMQ (M N : mm_) : Prop := (0 ≤ M 4 0 ∧ M 4 0 ≤ 20 ∧ N 6 17 = M 4 0) ∧ ∀ s, 0 ≤ s → s < M 4 0 → (1 ≤ M 43 s ∧ M 43 s ≤ 10) ∧ (∀ j : Nat, j < (M 43 s).toNat → (-128 ≤ M 42 (10 * s + j) ∧ M 42 (10 * s + j) ≤ 127) ∧ 0 < cd_ (M 42 (10 * s + j) % 256)) ∧ N 152 s = hs_ (M 42) (10 * s) (M 43 s).toNat
section TXa
variable {b : Int} {M N M' N' M1 N1 M2 N2 : mm_} {a a' k f t x c w p i u v s l o m A W : Int}
theorem NMQ_S [Inhabited fz_] (h : NMQ M N) (hT : TksB M N) (hk : ∀ i, gdB M i → M 75 i = 100 → N 151 i = hs_ (M 74) (M 76 i) (M 77 i - M 76 i).toNat ∧ (∀ j : Nat, j < (M 77 i - M 76 i).toNat → 0 < cd_ (M 74 (M 76 i + j) % 256)) ∧ 1 ≤ M 77 i - M 76 i ∧ M 77 i - M 76 i ≤ 10) (hb : ∀ i, 0 ≤ i → i < 5000 → -128 ≤ M 74 i ∧ M 74 i ≤ 127) : SGP M N := by
  refine ⟨h.1, fun s s0 s1 => ?_, fun t s ht ht1 s0 s1 => ?_⟩
  · have := (h.2 s s0 s1).1; omega
  · obtain ⟨n1, n2, n3⟩ := h.2 s s0 s1
    obtain ⟨k1, k2, k3, k4⟩ := hk t ht ht1
    have tt := (hT t ht).2.2.2.1
    rw [n3, k1]
    constructor
    · rintro ⟨e1, e2⟩
      rw [e1]
      refine hs_eq _ fun j hj => ?_
      rw [e2 j (by omega) (by omega)]
    · intro e
      have z := hs_inj _ _ (fun j hj => (n2 j hj).2) k2 e
      refine ⟨by omega, fun i i0 i1 => ?_⟩
      have y := z.2 i.toNat (by omega)
      have ei : ((i.toNat : Nat) : Int) = i := by omega
      rw [ei] at y
      have b1 := (n2 i.toNat (by omega)).1
      rw [ei] at b1
      have b2 := hb (M 76 t + i) (by omega) (by omega)
      omega
/-- the start of a chart's text -/
theorem CR_0 [Inhabited fz_] (hT : TksB M N) (x75 : M 0 75 = 0) (x : M 0 76 = 0 ∧ M 0 77 = 0 ∧ M 0 78 = 0 ∧ M 0 79 = 0 ∧ M 0 94 = -1 ∧ M 0 95 = 0 ∧ M 0 92 = 0) (q : N 6 12 = 0 ∧ N 6 13 = 0 ∧ N 6 16 = b ∧ N 6 170 = 0 ∧ N 6 171 = 0 ∧ N 6 172 = 0 ∧ N 6 186 = 0) (hb : b = 0 ∨ b = 1) : CR b M N 0 := by
  obtain ⟨x1, x2, x3, x4, x5, x6, x7⟩ := x
  obtain ⟨q1, q2, q3, q4, q5, q6, q7⟩ := q
  refine ⟨⟨hT, ⟨by omega, by omega, fun j j0 j1 => by omega⟩, ⟨x75, q1⟩, ⟨q3, hb⟩, fun _ => q2⟩, ⟨by omega, by omega, by omega, by omega⟩, fun k k0 k1 => by omega, fun k k0 k1 => by omega, ⟨⟨?_, ?_⟩, fun j j0 j1 => by omega⟩, fun k k0 k1 => by omega, by omega, fun _ => ⟨by omega, fun z => absurd x7 z⟩⟩
  · unfold levQ; rw [if_pos x4]; exact x5
  · unfold rowQ; rw [if_pos x4]; exact x6
theorem JOd_t [Inhabited fz_] {d n : Nat} {as : List pv_} {R : mm_ → mm_ → Prop} (h : JOd d n as b M N R) : Tr_ wd0 pg0 d n as M (rv_ fun M' => XTd M M' ∧ ∃ N', QL N N' ∧ R M' N' ∧ QTd N N') (fun r M' => r = 7 ∧ XTd M M' ∧ (b = 0 → ∃ N', QEc N N' ∧ FQc M' N' ∧ QTd N N')) := by
  rcases h with ⟨M', N', g1, g2, g3, g4, g5⟩ | ⟨M', g1, g2, g3⟩
  · exact g1 _ _ (rv_i ⟨g4, N', g2, g3, g5⟩)
  · exact g1 _ _ ⟨rfl, g2, g3⟩
/-- for all of Q's memories at once -/
theorem rows_2 [Inhabited fz_] (h : CR 0 M N a) (hS : SGP M N) (h79 : M 0 79 = 0) : Tr_ wd0 pg0 12 77 [.inr (.inr 0)] M (rv_ fun M' => XTd M M' ∧ ∀ b N, CR b M N a → SGP M N → ∃ N', QL N N' ∧ RWR b M N a M' N' ∧ QTd N N') (fun r M' => r = 7 ∧ XTd M M' ∧ ∃ N', QEc N N' ∧ FQc M' N' ∧ QTd N N') := by
  have c := Tr_cj (w := wd0) (P := pg0) 12 {q : Int × mm_ // CR q.1 M q.2 a ∧ SGP M q.2} ⟨(0, N), h, hS⟩ 77 [.inr (.inr 0)] M (fun q => rv_ fun M' => XTd M M' ∧ ∃ N', QL q.1.2 N' ∧ RWR q.1.1 M q.1.2 a M' N' ∧ QTd q.1.2 N') (fun q r M' => r = 7 ∧ XTd M M' ∧ (q.1.1 = 0 → ∃ N', QEc q.1.2 N' ∧ FQc M' N' ∧ QTd q.1.2 N')) (fun q => JOd_t (rows_n 3 M q.1.2 a q.2.1 q.2.2 (by rw [h79]; rfl)))
  refine Tr_m c (fun vs M' z => ?_) (fun r M' z => ?_)
  · refine ⟨(z ⟨(0, N), h, hS⟩).1, (z ⟨(0, N), h, hS⟩).2.1, fun b N' h' hS' => (z ⟨(b, N'), h', hS'⟩).2.2⟩
  · have y := z ⟨(0, N), h, hS⟩
    exact ⟨y.1, y.2.1, y.2.2 rfl⟩
/-- X's way through the text -/
def XSQ (M : mm_) (T : qt_) (K : mm_ → Prop) : Prop := Tr_ wd0 pg0 12 73 [.inr (.inr 0), .inl 44] M (rv_ fun M2 => Tr_ wd0 pg0 12 76 [.inr (.inr 0), .inl 59] M2 (rv_ fun M3 => Tr_ wd0 pg0 12 77 [.inr (.inr 0)] M3 (rv_ fun M4 => Tr_ wd0 pg0 12 74 [.inr (.inr 0), .inl 102] M4 (ri_ fun v1 M5 => (if v1 = 0 then Tr_ wd0 pg0 12 75 [.inr (.inr 0), .inl 1, .inl (M5 0 75)] M5 (rf_r fun v3 M7 => (if v3 = 1999 then False else T v3 M7)) T else K M5)) T) T) T) T
/-- Q's way through it -/
def QSQ (N N' : mm_) : Prop := ∀ (V : vv_) (Qr : qr_) (Qt : qt_), Cl_ wd0 (Tr_ wd0 pg0 5) V Qr Qt m_398 → Wk_ V → Qr [] N' → Tr_ wd0 pg0 5 250 [.inr (.inr 6), .inl 44] N (rv_ fun M1 => Tr_ wd0 pg0 5 244 [.inr (.inr 6), .inl 59] M1 (rv_ fun M2 => V 42 [rr 6] [] M2) Qt) Qt
theorem q_last [Inhabited fz_] (h : CR b M N a) (hk : M 75 a = 102) (hw : M 0 79 = 0) : QEc N N := fun V Qr Qt hV hW g => by
  have e := h.2.1.2.2.2
  refine b_398_42 (Tr_mono _) hV hW _ (Ex_le (d := 1) (by decide) (c_227 h.1) _ _ (ri_i ?_))
  rw [if_pos rfl]
  refine ⟨(CB_k h.1).2.2, ?_⟩
  rw [if_pos ((kq_0c h.1).2 hk)]
  refine Ex_le (d := 1) (by decide) (c_227 h.1) _ _ (ri_i ?_)
  rw [if_pos rfl, if_pos (by omega)]
  exact g
theorem ch_text [Inhabited fz_] (h : CR 0 M N 0) (hS : SGP M N) (h79 : M 0 79 = 0) {T : qt_} {K : mm_ → Prop}
    (hK : ∀ M', XTd M M' → (∀ b N, CR b M N 0 → SGP M N → ∃ N' a', QSQ N N' ∧ CR b M' N' a' ∧ QTd N N') → K M')
    (hT : ∀ M', XTd M M' → (∃ N', QSQ N N' ∧ FQc M' N' ∧ QTd N N') → T 7 M') : XSQ M T K := by
  have ha := CB_a h.1
  have e := h.1.2.2.1.1
  rcases Bd_or h.1 44 with ⟨k1, a1⟩ | ⟨f, hf⟩
  · have nk := nk_of k1 (by decide) (by decide)
    have nx1 : ∀ b N, CR b M N 0 → CR b (up_ M 0 75 (0 + 1)) (nx_ N) (0 + 1) := fun b N h => CR_nx h nk.1 nk.2 a1
    have x1 := x_73 ha e k1 a1
    have sx1 : xsm M (up_ M 0 75 (0 + 1)) := xsm_nx
    generalize up_ M 0 75 (0 + 1) = M1 at *
    have h1 := nx1 0 N h
    have fx1 := XTd_c (xsm_XT sx1)
    have ha1 := CB_a h1.1
    have e1 := h1.1.2.2.1.1
    rcases Bd_or h1.1 259 with ⟨k2, a2⟩ | ⟨f, hf⟩
    · have nk2 := nk_of k2 (by decide) (by decide)
      have nx2 : ∀ b N, CR b M1 N (0 + 1) → CR b (up_ M1 0 75 (0 + 1 + 1)) (nx_ N) (0 + 1 + 1) := fun b N h => CR_nx h nk2.1 nk2.2 a2
      have x2 := x_76 (c := 59) ha1 e1 (by decide) k2 a2
      have sx2 : xsm M1 (up_ M1 0 75 (0 + 1 + 1)) := xsm_nx
      generalize up_ M1 0 75 (0 + 1 + 1) = M2 at *
      have fx2 := XTd_tr fx1 (XTd_c (xsm_XT sx2))
      have q12 : ∀ b N, CR b M N 0 → ∀ N', QEc (nx_ (nx_ N)) N' → QSQ N N' := fun b N h N' g V Qr Qt hV hW z => Ex_le (d := 3) (by decide) (c_250 h.1 (w := 44) (by decide) k1 a1) _ _ (rv_i (Ex_le (d := 3) (by decide) (c_244 (nx1 b N h).1 (x := 59) (by decide) k2 a2) _ _ (rv_i (g V Qr Qt hV hW z))))
      have fq : ∀ N, QTd N (nx_ (nx_ N)) := fun N => QTd_tr (QTd_c (qsm_QT qsm_nx)) (QTd_c (qsm_QT qsm_nx))
      have h792 : M2 0 79 = 0 := by rw [sx2.2.1 79 (by decide), sx1.2.1 79 (by decide)]; exact h79
      refine Ex_le (d := 2) (by decide) x1 _ _ (rv_i (Ex_le (d := 3) (by decide) x2 _ _ (rv_i (Tr_m (rows_2 (nx2 0 _ h1) (SGP_d hS fx2 (fq N)) h792) (fun vs M3 z => ?_) (fun r M3 z => ?_)))))
      · obtain ⟨z0, z1, z2⟩ := z
        refine ⟨z0, ?_⟩
        obtain ⟨N3, g1, ⟨a3, g2, h3, ns3, kp3⟩, g3⟩ := z2 0 _ (nx2 0 _ h1) (SGP_d hS fx2 (fq N))
        have ha3 := CB_a h3.1
        have e3 := h3.1.2.2.1.1
        have w3 : M3 0 79 = 0 := by rw [kp3.1.2]; exact h792
        by_cases c : M3 75 a3 = 102
        · refine Ex_le (d := 1) (by decide) (x_74t ha3 e3 c) _ _ (ri_i ?_)
          rw [if_neg (by decide)]
          refine hK M3 (XTd_tr fx2 z1) fun b N' hb hSb => ?_
          obtain ⟨N4, y1, ⟨a4, y2, h4, ns4, kp4⟩, y3⟩ := z2 b _ (nx2 b _ (nx1 b _ hb)) (SGP_d hSb fx2 (fq N'))
          have e43 : a4 = a3 := by rw [← h4.1.2.2.1.1, ← e3]
          subst e43
          exact ⟨N4, a4, q12 b N' hb N4 (QL_E y1 (q_last h4 c w3)), h4, QTd_tr (fq N') y3⟩
        · refine Ex_le (d := 1) (by decide) (x_74f ha3 e3 c) _ _ (ri_i ?_)
          rw [if_pos rfl, e3]
          refine Ex_le (d := 1) (by decide) (x_75c ha3) _ _ (rf_i ?_)
          rw [if_neg (by decide)]
          refine hT _ (XTd_bd (XTd_tr fx2 z1)) ⟨bf_ N3 1 (M3 76 a3), q12 0 N h _ (QL_E g1 (q_wr h3 rfl ns3 (.inr c) (fun _ z => by omega) (fun _ z => by omega))), FQc_b (CB_16 h3.1 rfl) (by decide), QTd_bf (QTd_tr (fq N) g3)⟩
      · obtain ⟨rfl, z1, N3, g1, g2, g3⟩ := z
        exact hT M3 (XTd_tr fx2 z1) ⟨N3, q12 0 N h _ g1, g2, QTd_tr (fq N) g3⟩
    · refine Ex_le (d := 2) (by decide) x1 _ _ (rv_i (Th_le (d := 3) (by decide) (x_76b (c := 59) ha1 e1 (by decide) hf) _ _ (hT _ (XTd_bd fx1) ?_)))
      have sp := sp_b (p := M1 76 (0 + 1)) (CB_16 h1.1 rfl) (Bd_f hf)
      exact ⟨bf_ (nx_ N) f (M1 76 (0 + 1)), fun V Qr Qt hV hW z => Ex_le (d := 3) (by decide) (c_250 h.1 (w := 44) (by decide) k1 a1) _ _ (rv_i (Ex_le (d := 3) (by decide) (c_244b h1.1 rfl (x := 59) (by decide) hf) _ _ (rv_i (QEc_s sp V Qr Qt hV hW z)))), FQc_b (CB_16 h1.1 rfl) (Bd_f hf), QTd_bf (QTd_c (qsm_QT qsm_nx))⟩
  · refine Th_le (d := 2) (by decide) (x_73b ha e hf) _ _ (hT _ (XTd_bd XTd_rf) ?_)
    have sp := sp_b (p := M 76 0) (CB_16 h.1 rfl) (Bd_f hf)
    exact ⟨bf_ N f (M 76 0), fun V Qr Qt hV hW z => Ex_le (d := 3) (by decide) (c_250b h.1 rfl (w := 44) (by decide) hf) _ _ (rv_i (Ex_le (d := 3) (by decide) (s_244 sp) _ _ (rv_i (QEc_s sp V Qr Qt hV hW z)))), FQc_b (CB_16 h.1 rfl) (Bd_f hf), QTd_bf QTd_rf⟩
end TXa
end T435_tx
section T436_cj
/-! charts: what is chosen, what is named, the next event (X 87, 91, 90, 88, 89 | Q 408, 411, 410, 409) -/
def EVT (M N : mm_) : Prop := (M 0 35 = (N 6 143 + N 6 142) % 500 ∧ M 0 36 = N 6 142 ∧ (0 ≤ N 6 142 ∧ N 6 142 ≤ 500) ∧ (0 ≤ N 6 143 ∧ N 6 143 < 500)) ∧ ∀ i, 0 ≤ i → i < 2000 → M 23 i = N 240 i
def SDJ (M : mm_) (u v : Int) : Prop := (u = -2 ∧ v = -1) ∨ (u = v ∧ 0 ≤ u ∧ u < M 0 77)
def LJ9 (M N : mm_) (l : Int) : Prop := SDJ M (M 46 l) (N 256 l) ∧ SDJ M (M 47 l) (N 257 l) ∧ M 48 l = N 258 l ∧ (0 ≤ N 259 l ∧ N 259 l ≤ 3) ∧ M 49 l = lvL N l (N 259 l) ∧ M 50 l = rwL N l (N 259 l) ∧ ∀ j, 0 ≤ j → j < N 259 l → (0 ≤ N 260 (3 * l + j) ∧ N 260 (3 * l + j) < M 0 78) ∧ M 52 (N 260 (3 * l + j)) = lvL N l j ∧ M 53 (N 260 (3 * l + j)) = rwL N l j
def CHS (M N : mm_) : Prop := (N 6 170 = M 0 77 ∧ 0 ≤ M 0 77 ∧ M 0 77 ≤ 8) ∧ (N 6 171 = M 0 76 ∧ 0 ≤ M 0 76 ∧ M 0 76 ≤ 40) ∧ (N 6 172 = M 0 78 ∧ 0 ≤ M 0 78 ∧ M 0 78 ≤ 6) ∧ (∀ k, 0 ≤ k → k < M 0 77 → N 255 k = M 45 k) ∧ (∀ l, 0 ≤ l → l < M 0 76 → LJ9 M N l) ∧ (∀ k, 0 ≤ k → k < M 0 78 → M 51 k = N 262 k ∧ 1 ≤ M 51 k ∧ M 51 k ≤ 4) ∧ EVT M N
def CHO (M N : mm_) : Prop := ∀ k, 0 ≤ k → k < M 0 78 → M 54 k = N 265 k ∧ 0 ≤ M 54 k ∧ M 54 k < M 51 k
def XJ (M M' : mm_) : Prop := (∀ r, r ∉ [0, 54] → M' r = M r) ∧ ∀ i, i ≠ 98 → M' 0 i = M 0 i
def QJ (N N' : mm_) : Prop := (∀ r, r ∉ [6, 265] → N' r = N r) ∧ ∀ i, i ∉ [188, 189] → N' 6 i = N 6 i
def X98 (M M' : mm_) : Prop := (∀ r, r ≠ 0 → M' r = M r) ∧ ∀ i, i ≠ 98 → M' 0 i = M 0 i
def Q189 (N N' : mm_) : Prop := (∀ r, r ≠ 6 → N' r = N r) ∧ ∀ i, i ≠ 189 → N' 6 i = N 6 i
def evp (N : mm_) (i : Int) : Int := 4 * ((N 6 143 + i) % 500)
section CJa
variable {M N M' N' M1 N1 M2 N2 : mm_} {a k f t x c w p i u v s l o m A W x1 x2 x3 : Int}
theorem X98_rf [Inhabited fz_] : X98 M M := ⟨fun _ _ => rfl, fun _ _ => rfl⟩
theorem Q189_rf [Inhabited fz_] : Q189 N N := ⟨fun _ _ => rfl, fun _ _ => rfl⟩
theorem X98_tr [Inhabited fz_] (h : X98 M M1) (g : X98 M1 M2) : X98 M M2 := ⟨fun r hr => by rw [g.1 r hr, h.1 r hr], fun i hi => by rw [g.2 i hi, h.2 i hi]⟩
theorem Q189_tr [Inhabited fz_] (h : Q189 N N1) (g : Q189 N1 N2) : Q189 N N2 := ⟨fun r hr => by rw [g.1 r hr, h.1 r hr], fun i hi => by rw [g.2 i hi, h.2 i hi]⟩
theorem X98_u [Inhabited fz_] : X98 M (up_ M 0 98 v) := ⟨fun r hr => up_ne hr, fun i hi => upo hi⟩
theorem Q189_u [Inhabited fz_] : Q189 N (up_ N 6 189 v) := ⟨fun r hr => up_ne hr, fun i hi => upo hi⟩
theorem X98_J [Inhabited fz_] (h : X98 M M') : XJ M M' := ⟨fun r hr => h.1 r (by rintro rfl; exact hr (by decide)), h.2⟩
theorem Q189_J [Inhabited fz_] (h : Q189 N N') : QJ N N' := ⟨fun r hr => h.1 r (by rintro rfl; exact hr (by decide)), fun i hi => h.2 i (by rintro rfl; exact hi (by decide))⟩
theorem XJ_rf [Inhabited fz_] : XJ M M := ⟨fun _ _ => rfl, fun _ _ => rfl⟩
theorem QJ_rf [Inhabited fz_] : QJ N N := ⟨fun _ _ => rfl, fun _ _ => rfl⟩
theorem XJ_tr [Inhabited fz_] (h : XJ M M1) (g : XJ M1 M2) : XJ M M2 := ⟨fun r hr => by rw [g.1 r hr, h.1 r hr], fun i hi => by rw [g.2 i hi, h.2 i hi]⟩
theorem QJ_tr [Inhabited fz_] (h : QJ N N1) (g : QJ N1 N2) : QJ N N2 := ⟨fun r hr => by rw [g.1 r hr, h.1 r hr], fun i hi => by rw [g.2 i hi, h.2 i hi]⟩
theorem CHS_c [Inhabited fz_] (h : CHS M N) (hx : XJ M M') (hq : QJ N N') : CHS M' N' := by
  unfold CHS LJ9 SDJ EVT lvL rwL at *
  rw [hx.2 77 (by decide), hx.2 76 (by decide), hx.2 78 (by decide), hx.2 35 (by decide), hx.2 36 (by decide), hx.1 45 (by decide), hx.1 46 (by decide), hx.1 47 (by decide), hx.1 48 (by decide), hx.1 49 (by decide), hx.1 50 (by decide), hx.1 51 (by decide), hx.1 52 (by decide), hx.1 53 (by decide), hx.1 23 (by decide), hq.2 170 (by decide), hq.2 171 (by decide), hq.2 172 (by decide), hq.2 142 (by decide), hq.2 143 (by decide), hq.1 255 (by decide), hq.1 256 (by decide), hq.1 257 (by decide), hq.1 258 (by decide), hq.1 259 (by decide), hq.1 260 (by decide), hq.1 261 (by decide), hq.1 262 (by decide), hq.1 240 (by decide)]
  exact h
theorem CHO_c [Inhabited fz_] (h : CHO M N) (hx : X98 M M') (hq : ∀ r, r ≠ 6 → N' r = N r) : CHO M' N' := by
  unfold CHO at *
  rw [hx.2 78 (by decide), hx.1 54 (by decide), hx.1 51 (by decide), hq 265 (by decide)]
  exact h
/-- a truth as a number -/
theorem bit9 [Inhabited fz_] (c : Prop) : ∃ u : Int, BV u ∧ (u = 1 ↔ c) := by
  by_cases h : c
  · exact ⟨1, .inr rfl, ⟨fun _ => h, fun _ => rfl⟩⟩
  · exact ⟨0, .inl rfl, ⟨fun e => absurd e (by decide), fun e => absurd e h⟩⟩
/-- whether a line is chosen -/
theorem j_87 [Inhabited fz_] (h : CHS M N) (hC : CHO M N) (hl : 0 ≤ l ∧ l < M 0 76) : ∃ v, BV v ∧ Ex_ 1 87 [.inr (.inr 0), .inl (M 49 l), .inl (M 50 l)] M [.inl v] M ∧ Ex_ 1 408 [.inr (.inr 6), .inl l] N [.inl v] N := by
  obtain ⟨_, n1, n2, _, n4, _⟩ := h
  obtain ⟨_, _, _, ⟨d0, d3⟩, l1, l2, l3⟩ := n4 l hl.1 hl.2
  obtain ⟨v, hv, iff⟩ := bit9 (∀ j, 0 ≤ j → j < N 259 l → M 54 (N 260 (3 * l + j)) = N 261 (3 * l + j))
  have l40 : 0 ≤ l ∧ l < 40 := by omega
  have w3 : w32 (3 * l) = 3 * l := w32_id (by omega) (by omega)
  refine ⟨v, hv, ?_, ?_⟩
  · -- X goes up
    have key : ∀ (n : Nat) (j : Int), j = n → j ≤ N 259 l → (∀ i, j ≤ i → i < N 259 l → M 54 (N 260 (3 * l + i)) = N 261 (3 * l + i)) → ∀ (V : vv_) (Qr : qr_) (Qt : qt_), Cl_ wd0 (Tr_ wd0 pg0 0) V Qr Qt m_87 → Wk_ V → Qr [.inl v] M → V 5 [rr 0, ii (M 49 l), ii (M 50 l), ii (lvL N l j), ii (rwL N l j)] [] M := by
      intro n
      induction n with
      | zero =>
        intro j hj _ hs V Qr Qt hV hW g
        have j0 : j = 0 := by omega
        subst j0
        refine b_87_5 (Tr_mono _) hV hW _ _ _ _ _ ?_
        rw [if_pos (by unfold lvL; rw [if_pos rfl])]
        have : v = 1 := iff.2 fun i i0 i1 => hs i (by omega) i1
        rw [this] at g
        exact ⟨.inr rfl, g⟩
      | succ n ih =>
        intro j hj jd hs V Qr Qt hV hW g
        have e1 : lvL N l j = N 260 (3 * l + (j - 1)) := by unfold lvL; rw [if_neg (by omega)]
        have e2 : rwL N l j = N 261 (3 * l + (j - 1)) := by unfold rwL; rw [if_neg (by omega)]
        have r := l3 (j - 1) (by omega) (by omega)
        refine b_87_5 (Tr_mono _) hV hW _ _ _ _ _ ?_
        rw [e1, e2, if_neg (by omega)]
        refine ⟨by omega, ?_⟩
        by_cases c : M 54 (N 260 (3 * l + (j - 1))) = N 261 (3 * l + (j - 1))
        · rw [if_pos c, r.2.1, r.2.2]
          refine ⟨by omega, by omega, ih (j - 1) (by omega) (by omega) (fun i i0 i1 => ?_) V Qr Qt hV hW g⟩
          by_cases e : i = j - 1
          · subst e; exact c
          · exact hs i (by omega) i1
        · rw [if_neg c]
          have : v = 0 := hv.resolve_right fun z => c (iff.1 z (j - 1) (by omega) (by omega))
          rw [this] at g
          exact ⟨.inl rfl, g⟩
    intro Qr Qt g
    refine t_87 fun V hV hW => b_87_0 (Tr_mono _) hV hW _ _ _ ?_
    have := key (N 259 l).toNat (N 259 l) (by omega) (Int.le_refl _) (fun i i0 i1 => by omega) V Qr Qt hV hW g
    rw [← l1, ← l2] at this
    exact this
  · have key : ∀ (n : Nat) (j : Int) (y : Int), N 259 l - j = n → 0 ≤ j → j ≤ N 259 l → BV y → (y = 1 ↔ ∀ i, 0 ≤ i → i < j → M 54 (N 260 (3 * l + i)) = N 261 (3 * l + i)) → ∀ (V : vv_) (Qr : qr_) (Qt : qt_), Cl_ wd0 (Tr_ wd0 pg0 0) V Qr Qt m_408 → Wk_ V → Qr [.inl v] N → V 4 [rr 6, ii l, ii y, ii j] [] N := by
      intro n
      induction n with
      | zero =>
        intro j y hj j0 jd hy hi V Qr Qt hV hW g
        refine b_408_4 (Tr_mono _) hV hW _ _ _ _ ⟨l40, ?_⟩
        have : j = N 259 l := by omega
        subst this
        have : y = v := bv_eq hy hv hi iff
        rw [if_neg (by omega), this]
        exact ⟨hv, g⟩
      | succ n ih =>
        intro j y hj j0 jd hy hi V Qr Qt hV hW g
        have r := l3 j j0 (by omega)
        refine b_408_4 (Tr_mono _) hV hW _ _ _ _ ⟨l40, ?_⟩
        rw [if_pos (by omega), w3, w32_id (x := 3 * l + j) (by omega) (by omega), w32_id (x := j + 1) (by omega) (by omega)]
        by_cases cy : y = 0
        · rw [if_pos cy]
          refine ih (j + 1) 0 (by omega) (by omega) (by omega) (.inl rfl) ⟨fun z => absurd z (by decide), fun z => ?_⟩ V Qr Qt hV hW g
          have := hi.2 fun i i0 i1 => z i i0 (by omega)
          omega
        · have y1 := hi.1 (hy.resolve_left cy)
          have e := (hC (N 260 (3 * l + j)) r.1.1 r.1.2).1
          rw [if_neg cy, ← e]
          refine ⟨by omega, by omega, by omega, ?_⟩
          by_cases c : M 54 (N 260 (3 * l + j)) = N 261 (3 * l + j)
          · rw [if_pos c]
            refine ih (j + 1) 1 (by omega) (by omega) (by omega) (.inr rfl) ⟨fun _ i i0 i1 => ?_, fun _ => rfl⟩ V Qr Qt hV hW g
            by_cases ei : i = j
            · subst ei; exact c
            · exact y1 i i0 (by omega)
          · rw [if_neg c]
            exact ih (j + 1) 0 (by omega) (by omega) (by omega) (.inl rfl) ⟨fun z => absurd z (by decide), fun z => absurd (z j j0 (by omega)) c⟩ V Qr Qt hV hW g
    exact fun Qr Qt g => t_408 fun V hV hW => b_408_0 (Tr_mono _) hV hW _ _ (key (N 259 l).toNat 0 1 (by omega) (by omega) (by omega) (.inr rfl) ⟨fun _ i i0 i1 => by omega, fun _ => rfl⟩ V Qr Qt hV hW g)
/-- whether a signal is named -/
theorem j_91 [Inhabited fz_] (h : CHS M N) : ∃ v, BV v ∧ Ex_ 1 91 [.inr (.inr 0), .inl s] M [.inl v] M ∧ Ex_ 1 411 [.inr (.inr 6), .inl s] N [.inl v] N := by
  obtain ⟨_, n1, n2, _, n4, _⟩ := h
  obtain ⟨v, hv, iff⟩ := bit9 (∃ l, (0 ≤ l ∧ l < M 0 76) ∧ M 48 l = s)
  refine ⟨v, hv, ?_, ?_⟩
  · have key : ∀ (n : Nat) (j : Int), M 0 76 - j = n → 0 ≤ j → (∀ i, 0 ≤ i → i < j → M 48 i ≠ s) → ∀ (V : vv_) (Qr : qr_) (Qt : qt_), Cl_ wd0 (Tr_ wd0 pg0 0) V Qr Qt m_91 → Wk_ V → Qr [.inl v] M → V 2 [rr 0, ii s, ii j] [] M := by
      intro n
      induction n with
      | zero =>
        intro j hj j0 hs V Qr Qt hV hW g
        refine b_91_2 (Tr_mono _) hV hW _ _ _ ?_
        have : v = 0 := hv.resolve_right fun z => by
          obtain ⟨l, hl, e⟩ := iff.1 z
          exact hs l hl.1 (by omega) e
        rw [if_neg (by omega)]; rw [this] at g
        exact ⟨.inl rfl, g⟩
      | succ n ih =>
        intro j hj j0 hs V Qr Qt hV hW g
        refine b_91_2 (Tr_mono _) hV hW _ _ _ ?_
        rw [if_pos (by omega), w32_id (by omega) (by omega)]
        refine ⟨by omega, ?_⟩
        by_cases c : M 48 j = s
        · rw [if_pos c]
          have : v = 1 := iff.2 ⟨j, by omega, c⟩
          rw [this] at g
          exact ⟨.inr rfl, g⟩
        · rw [if_neg c]
          refine ih (j + 1) (by omega) (by omega) (fun i i0 i1 => ?_) V Qr Qt hV hW g
          by_cases e : i = j
          · subst e; exact c
          · exact hs i i0 (by omega)
    exact fun Qr Qt g => t_91 fun V hV hW => b_91_0 (Tr_mono _) hV hW _ _ (key (M 0 76).toNat 0 (by omega) (by omega) (fun i i0 i1 => by omega) V Qr Qt hV hW g)
  · have key : ∀ (n : Nat) (j : Int) (y : Int), M 0 76 - j = n → 0 ≤ j → j ≤ M 0 76 → BV y → (y = 1 ↔ ∃ l, (0 ≤ l ∧ l < j) ∧ M 48 l = s) → ∀ (V : vv_) (Qr : qr_) (Qt : qt_), Cl_ wd0 (Tr_ wd0 pg0 0) V Qr Qt m_411 → Wk_ V → Qr [.inl v] N → V 4 [rr 6, ii s, ii y, ii j] [] N := by
      intro n
      induction n with
      | zero =>
        intro j y hj j0 jd hy hi V Qr Qt hV hW g
        refine b_411_4 (Tr_mono _) hV hW _ _ _ _ ?_
        have e : j = M 0 76 := by omega
        subst e
        have : y = v := bv_eq hy hv hi iff
        rw [if_neg (by omega), this]
        exact ⟨hv, g⟩
      | succ n ih =>
        intro j y hj j0 jd hy hi V Qr Qt hV hW g
        refine b_411_4 (Tr_mono _) hV hW _ _ _ _ ?_
        rw [if_pos (by omega), w32_id (by omega) (by omega)]
        by_cases cy : y = 0
        · rw [if_pos cy, ← (n4 j j0 (by omega)).2.2.1]
          refine ⟨by omega, ?_⟩
          by_cases c : M 48 j = s
          · rw [if_pos c]
            exact ih (j + 1) 1 (by omega) (by omega) (by omega) (.inr rfl) ⟨fun _ => ⟨j, by omega, c⟩, fun _ => rfl⟩ V Qr Qt hV hW g
          · rw [if_neg c]
            refine ih (j + 1) 0 (by omega) (by omega) (by omega) (.inl rfl) ⟨fun z => absurd z (by decide), fun ⟨l, hl, e⟩ => ?_⟩ V Qr Qt hV hW g
            by_cases ej : l = j
            · subst ej; exact absurd e c
            · have := hi.2 ⟨l, by omega, e⟩; omega
        · rw [if_neg cy]
          obtain ⟨l, hl, e⟩ := hi.1 (hy.resolve_left cy)
          exact ih (j + 1) 1 (by omega) (by omega) (by omega) (.inr rfl) ⟨fun _ => ⟨l, by omega, e⟩, fun _ => rfl⟩ V Qr Qt hV hW g
    exact fun Qr Qt g => t_411 fun V hV hW => b_411_0 (Tr_mono _) hV hW _ _ (key (M 0 76).toNat 0 0 (by omega) (by omega) (by omega) (.inl rfl) ⟨fun z => absurd z (by decide), fun ⟨l, hl, _⟩ => by omega⟩ V Qr Qt hV hW g)
end CJa
end T436_cj
section T437_cj
/-! charts: whether an inst follows (X 86, 89, 90 | Q 407, 409, 410) -/
section CJb
variable {M N M' N' M1 N1 M2 N2 : mm_} {a k f t x c w p i u v s l o m A W x1 x2 x3 : Int}
theorem x_69e [Inhabited fz_] (h : EVT M N) (hi : 0 ≤ i ∧ i < N 6 142) : Ex_ 1 69 [.inr (.inr 0), .inl i] M [.inl (evp N i)] M := by
  obtain ⟨⟨h1, h2, h3, h4⟩, _⟩ := h
  have := x_69 (M := M) (x1 := i) (by omega) (by omega) (by omega)
  have e : 4 * ((M 0 35 + 500 - M 0 36 + i) % 500) = evp N i := by unfold evp; omega
  rw [e] at this; exact this
theorem evp_w [Inhabited fz_] (h : EVT M N) (hi : 0 ≤ i ∧ i < N 6 142) : w32 (4 * (Int.tmod (w32 (N 6 143 + i)) 500)) = evp N i ∧ 0 ≤ evp N i ∧ evp N i + 3 < 2000 := by
  obtain ⟨⟨h1, h2, h3, h4⟩, _⟩ := h
  have e : w32 (N 6 143 + i) = N 6 143 + i := w32_id (by omega) (by omega)
  rw [e, Int.tmod_eq_emod_of_nonneg (by omega)]
  unfold evp
  exact ⟨w32_id (by omega) (by omega), by omega, by omega⟩
/-- the next event that counts -/
theorem j_90 [Inhabited fz_] (hw : 0 ≤ w) {x2 : Int} : ∀ (n : Nat) (i : Int) (M : mm_), N 6 142 - i = n → 0 ≤ i → M 0 98 = i → CHS M N → w < M 0 77 → ∃ k M', (k = -1 ∨ (0 ≤ k ∧ k < N 6 142)) ∧ X98 M M' ∧ (k ≠ -1 → M' 0 98 = k + 1) ∧ (∀ (V : vv_) (Qr : qr_) (Qt : qt_), Cl_ wd0 (Tr_ wd0 pg0 1) V Qr Qt m_90 → Wk_ V → Qr [.inl (if k = -1 then -1 else evp N k)] M' → V 0 [rr 0, ii (M 45 w), none] [] M) ∧ (∀ (V : vv_) (Qr : qr_) (Qt : qt_), Cl_ wd0 (Tr_ wd0 pg0 1) V Qr Qt m_410 → Wk_ V → Qr [.inl k] N → V 2 [rr 6, ii w, ii x2, ii i, none] [] N) := by
  intro n
  induction n with
  | zero =>
    intro i M hi i0 e98 h wI
    have hE := h.2.2.2.2.2.2
    refine ⟨-1, M, .inl rfl, X98_rf, fun z => absurd rfl z, fun V Qr Qt hV hW g => b_90_0 (Tr_mono _) hV hW _ _ ?_, fun V Qr Qt hV hW g => b_410_2 (Tr_mono _) hV hW _ _ _ _ ?_⟩
    · rw [if_neg (by have := hE.1.2.1; omega)]; rw [if_pos rfl] at g; exact g
    · rw [if_neg (by omega)]; exact g
  | succ n ih =>
    intro i M hi i0 e98 h wI
    have hE := h.2.2.2.2.2.2
    have n142 := hE.1.2.2.1
    have x69 := x_69e hE (i := i) (by omega)
    obtain ⟨ep, ep0, ep1⟩ := evp_w hE (i := i) (by omega)
    have ev : ∀ j, 0 ≤ j → j ≤ 3 → M 23 (evp N i + j) = N 240 (evp N i + j) := fun j j0 j1 => hE.2 _ (by omega) (by omega)
    have e0 : M 23 (evp N i) = N 240 (evp N i) := hE.2 _ (by omega) (by omega)
    have w1 : w32 (evp N i + 1) = evp N i + 1 := w32_id (by omega) (by omega)
    have w2 : w32 (evp N i + 2) = evp N i + 2 := w32_id (by omega) (by omega)
    have wi : w32 (i + 1) = i + 1 := w32_id (by omega) (by omega)
    have hI := h.1
    have pid := h.2.2.2.1 w hw wI
    -- the rest of the events
    obtain ⟨k, M', hk, fx, fk, gx, gq⟩ := ih (i + 1) (up_ M 0 98 (i + 1)) (by omega) (by omega) up_at (CHS_c h (X98_J X98_u) QJ_rf) (by rw [upo (by decide)]; exact wI)
    have e45 : (up_ M 0 98 (i + 1)) 45 = M 45 := up_ne (by decide)
    rw [e45] at gx
    have fx' : X98 M M' := X98_tr X98_u fx
    have lt : M 0 98 < M 0 36 := by have := hE.1.2.1; omega
    by_cases c1 : M 23 (evp N i) = 1 ∨ M 23 (evp N i) = 2
    · -- it is sent or taken
      have px : ∀ (V : vv_) (Qr : qr_) (Qt : qt_), Cl_ wd0 (Tr_ wd0 pg0 1) V Qr Qt m_90 → Wk_ V → V 50 [rr 0, ii (M 45 w), ii (evp N i)] [] (up_ M 0 98 (i + 1)) → V 0 [rr 0, ii (M 45 w), none] [] M := fun V Qr Qt hV hW g => b_90_0 (Tr_mono _) hV hW _ _ (by
        rw [if_pos lt, e98]
        refine x69 _ _ (ri_i ⟨by omega, ?_⟩)
        rw [e98, wi]
        by_cases z : M 23 (evp N i) = 1
        · rw [if_pos z]; exact g
        · rw [if_neg z, if_pos (c1.resolve_left z)]; exact ⟨by omega, g⟩)
      have pq : ∀ (V : vv_) (Qr : qr_) (Qt : qt_), Cl_ wd0 (Tr_ wd0 pg0 1) V Qr Qt m_410 → Wk_ V → V 46 [rr 6, ii w, ii x2, ii i, ii (evp N i)] [] N → V 2 [rr 6, ii w, ii x2, ii i, none] [] N := fun V Qr Qt hV hW g => b_410_2 (Tr_mono _) hV hW _ _ _ _ (by
        rw [if_pos (by omega), ep, ← e0]
        refine ⟨by decide, by omega, ?_⟩
        by_cases z : M 23 (evp N i) = 1
        · rw [if_pos z]; exact g
        · rw [if_neg z, if_pos (c1.resolve_left z)]; exact ⟨by omega, g⟩)
      by_cases c2 : M 23 (evp N i + 1) = M 45 w
      · obtain ⟨v, hv, xv', qv⟩ := j_91 (s := M 23 (evp N i + 2)) (CHS_c h (X98_J (X98_u (v := i + 1))) (QJ_rf (N := N)))
        by_cases cv : v = 0
        · refine ⟨k, M', hk, fx', fk, fun V Qr Qt hV hW g => px V Qr Qt hV hW (b_90_50 (Tr_mono _) hV hW _ _ _ ?_), fun V Qr Qt hV hW g => pq V Qr Qt hV hW (b_410_46 (Tr_mono _) hV hW _ _ _ _ _ ?_)⟩
          · rw [w1, w2, up_ne (by decide), if_pos c2]
            refine ⟨by omega, by omega, xv' _ _ (ri_i ?_)⟩
            rw [if_pos cv]; exact gx V Qr Qt hV hW g
          · rw [w1, w2, ← ev 1 (by omega) (by omega), ← ev 2 (by omega) (by omega), pid, if_pos c2, wi]
            refine ⟨by omega, by omega, by omega, qv _ _ (ri_i ?_)⟩
            rw [if_pos cv]; exact gq V Qr Qt hV hW g
        · refine ⟨i, up_ M 0 98 (i + 1), .inr ⟨i0, by omega⟩, X98_u, fun _ => up_at, fun V Qr Qt hV hW g => px V Qr Qt hV hW (b_90_50 (Tr_mono _) hV hW _ _ _ ?_), fun V Qr Qt hV hW g => pq V Qr Qt hV hW (b_410_46 (Tr_mono _) hV hW _ _ _ _ _ ?_)⟩
          · rw [w1, w2, up_ne (by decide), if_pos c2]
            refine ⟨by omega, by omega, xv' _ _ (ri_i ?_)⟩
            rw [if_neg cv]; rw [if_neg (by omega)] at g; exact g
          · rw [w1, w2, ← ev 1 (by omega) (by omega), ← ev 2 (by omega) (by omega), pid, if_pos c2]
            refine ⟨by omega, by omega, by omega, qv _ _ (ri_i ?_)⟩
            rw [if_neg cv]; exact g
      · refine ⟨k, M', hk, fx', fk, fun V Qr Qt hV hW g => px V Qr Qt hV hW (b_90_50 (Tr_mono _) hV hW _ _ _ ?_), fun V Qr Qt hV hW g => pq V Qr Qt hV hW (b_410_46 (Tr_mono _) hV hW _ _ _ _ _ ?_)⟩
        · rw [w1, up_ne (by decide), if_neg c2]; exact ⟨by omega, gx V Qr Qt hV hW g⟩
        · rw [w1, ← ev 1 (by omega) (by omega), pid, if_neg c2, wi]; exact ⟨by omega, by omega, gq V Qr Qt hV hW g⟩
    · refine ⟨k, M', hk, fx', fk, fun V Qr Qt hV hW g => b_90_0 (Tr_mono _) hV hW _ _ ?_, fun V Qr Qt hV hW g => b_410_2 (Tr_mono _) hV hW _ _ _ _ ?_⟩
      · rw [if_pos lt, e98]
        refine x69 _ _ (ri_i ⟨by omega, ?_⟩)
        rw [e98, wi, if_neg (by omega), if_neg (by omega)]
        exact ⟨by omega, gx V Qr Qt hV hW g⟩
      · rw [if_pos (by omega), ep, ← e0, if_neg (by omega), if_neg (by omega), wi]
        exact ⟨by decide, by omega, by omega, gq V Qr Qt hV hW g⟩
end CJb
end T437_cj
