section T298_gw
/-! growth at the system's level: a process more -/
def sxL : List Nat := [5, 129, 133, 134, 135, 136, 137, 138, 139, 140, 141, 142]
section GWc
variable {b F F' : Int} {M N M' N' M1 N1 Me : mm_} {lb ub T k c y i x me f a a' np ns nr q0 q1 s : Int}
theorem OXS_x [Inhabited gh_] (hx : ∀ r : Nat, r ∈ sxL → M1 r = M r) : OXS 0 0 M M1 := ⟨by rw [hx 5 (by decide)]; exact ⟨Int.le_refl _, Int.le_refl _⟩, fun i _ _ => by rw [hx 142 (by decide)], fun r i hr _ _ => by rw [hx r (by revert hr; unfold st9L sxL; simp only [List.mem_cons, List.not_mem_nil, or_false]; (clear hx; lia))], fun i _ _ => by rw [hx 137 (by decide)], fun i _ => by rw [hx 129 (by decide)]⟩
theorem OQS_rf [Inhabited gh_] : OQS 0 0 N N := ⟨⟨fun _ _ => rfl, fun _ _ => rfl⟩, ⟨Int.le_refl _, Int.le_refl _, Int.le_refl _, Int.le_refl _, Int.le_refl _, Int.le_refl _⟩, fun _ _ _ _ _ => rfl, fun _ _ _ => ⟨rfl, rfl⟩, fun _ _ _ => rfl, fun _ _ _ _ _ => rfl, fun _ _ _ => rfl, fun _ _ _ _ _ => rfl, fun _ _ _ => ⟨rfl, rfl⟩, fun _ _ _ _ _ => rfl, fun _ _ => ⟨rfl, rfl⟩⟩
theorem ATP_x [Inhabited gh_] (h : ATP M N T k c) (hx : ∀ r : Nat, r ∈ sxL → M1 r = M r) : ATP M1 N T k c := ATP_S h (OXS_x hx) OQS_rf
theorem SRO_x [Inhabited gh_] (h : SRO M N k y i) (hx : ∀ r : Nat, r ∈ sxL → M1 r = M r) : SRO M1 N k y i := by
  obtain ⟨s1, s2, s3, s4⟩ := h
  unfold SRO
  rw [hx 141 (by decide), hx 139 (by decide), hx 140 (by decide)]
  refine ⟨fun e => ATP_x (s1 e) hx, fun e => ?_, fun e => ⟨ASK_S (s3 e).1 (OXS_x hx) OQS_rf, (s3 e).2⟩, fun e => ?_⟩
  · rcases s2 e with h | h
    · exact .inl h
    · exact .inr (ASK_S h (OXS_x hx) OQS_rf)
  · have s5 := s4 e
    unfold RWI UQI at s5 ⊢
    rw [hx 134 (by decide), hx 133 (by decide), hx 136 (by decide), hx 135 (by decide), hx 138 (by decide), hx 137 (by decide)]
    exact s5
theorem PRO_18 [Inhabited gh_] (hP : PRO b F F' M N M' N' np a a') : M' 1 18 = np := by
  obtain ⟨F1, Mz, Nz, Ma, Na, Z, pz, k58, k52, ct, Ha, Mh, Nh, ah, c, Fh, Hh, ph, cb, cc, n170, S', P', f', at'⟩ := hP
  obtain ⟨e18, e19, e29, e33, e61⟩ := hd_18 ct
  have h18 : Mh 1 18 = np := by rw [ph.1.2.1 18 (by decide), up_ne (by decide)]; exact e18
  exact (sB_18 f').trans h18
theorem GRW_2 [Inhabited gh_] {F F' : Int} {M N M' N' Me : mm_} {a a' ns nr np : Int} (S : SYS 1 F M N a ns nr np) (hnp : np < M 5 2) (hI : GRW M N np) (P : PRO 1 F F' M N M' N' np a a') (S' : SYS 1 F' Me N' a' ns nr (np + 1)) (hM : ∃ f c j, Me = cmX M' f c j ∧ (N' 6 13 = 0 → ∃ n : Nat, CMD M' N' np (N 6 76) n c j ∧ N' 6 76 = N 6 76 + n)) : GRW Me N' (np + 1) := by
  intro hz
  obtain ⟨f, c, j, eM, cm⟩ := hM
  obtain ⟨n, ⟨cm1, cm2, ⟨rw1, rw2, rw3, rw4⟩, cm4⟩, q76⟩ := cm hz
  obtain ⟨⟨ox, oq⟩, ⟨k127, m67, m68, m123⟩, gg⟩ := PRO_G S P
  obtain ⟨n0, s1, s2, s3, s4, s5⟩ := gg hz
  obtain ⟨g1, g2, g3, ⟨g4, g4'⟩, g5, g6⟩ := hI n0
  have m18 := PRO_18 P
  have sc := SYS_SC2 S rfl
  have h0 := S.2.1.2.1.2.2
  have cr : ∀ r : Nat, r ≠ 63 → r ≠ 67 → r ≠ 68 → Me r = M' r := fun r h1 h2 h3 => by rw [eM]; exact cmX_r h1 h2 h3
  have sx : ∀ r : Nat, r ∈ sxL → Me r = M' r := fun r hr => cr r (fun e => by rw [e] at hr; revert hr; decide) (fun e => by rw [e] at hr; revert hr; decide) (fun e => by rw [e] at hr; revert hr; decide)
  have e67 : ∀ T, Me 67 T = if T = np then xo_ c (-1) else M 67 T := fun T => by
    rw [eM]; unfold cmX
    rw [m18, up_ne (by decide)]
    by_cases cT : T = np
    · rw [if_pos cT, cT, up_at]
    · rw [if_neg cT, up_of2 cT, wr_ne (by decide), m67]
  have e68 : ∀ T, Me 68 T = if T = np then xo_ j (-1) else M 68 T := fun T => by
    rw [eM]; unfold cmX
    rw [m18]
    by_cases cT : T = np
    · rw [if_pos cT, cT, up_at]
    · rw [if_neg cT, up_of2 cT, up_ne (by decide), wr_ne (by decide), m68]
  have e123 : Me 123 = M 123 := by rw [cr 123 (by decide) (by decide) (by decide), m123]
  have e1 : Me 1 = M' 1 := cr 1 (by decide) (by decide) (by decide)
  have q75 := oq.2.1.2.2.1
  have q62 := oq.2.1.1
  have t175 : N' 175 = N 175 := oq.1.1 175 (by decide)
  have tq := oq.2.2.2.2.2.2.2.2.2.1
  have l188 := oq.2.2.2.2.2.2.2.2.2.2
  have new211 : ∀ me, N 6 76 ≤ me → me < N' 6 76 → N' 211 me = np := fun me m0 m1 => by
    have := (rw1 (me - N 6 76) (by (clear S hnp hI P S' hz eM cm q76 cm1 cm2 cm4 rw1 rw2 rw3 rw4 ox oq gg k127 m67 m68 m123 n0 s1 s2 s3 s4 s5 g1 g2 g3 g4 g4' g5 g6 m18 sc h0 cr sx e67 e68 e123 e1 q75 q62 t175 tq l188 m1; omega)) (by (clear S hnp hI P S' hz eM cm cm1 cm2 cm4 rw1 rw2 rw3 rw4 ox oq gg k127 m67 m68 m123 n0 s1 s2 s3 s4 s5 g1 g2 g3 g4 g4' g5 g6 m18 sc h0 cr sx e67 e68 e123 e1 q75 q62 t175 tq l188 m0; omega))).1
    rw [show N 6 76 + (me - N 6 76) = me by (clear S hnp hI P S' hz eM cm q76 cm1 cm2 cm4 rw1 rw2 rw3 rw4 ox oq gg k127 m67 m68 m123 n0 s1 s2 s3 s4 s5 g1 g2 g3 g4 g4' g5 g6 m18 sc h0 cr sx e67 e68 e123 e1 q75 q62 t175 tq l188 m0 m1 this; lia)] at this; exact this
  have n76 := sc.1.2.2.2
  refine ⟨fun k k0 k1 j j0 j1 => ?_, fun T T0 T1 => ?_, fun me m0 m1 => ?_, ⟨fun s s0 s1' => ?_, fun s s0 s1' => ?_⟩, ?_⟩
  · by_cases ck : k < N 6 62
    · rw [nsK_S oq ⟨k0, ck⟩] at j1
      rw [xsf_S oq k.toNat (by (clear S hnp hI P S' hz eM cm q76 cm1 cm2 cm4 rw1 rw2 rw3 rw4 ox oq gg k127 m67 m68 m123 n0 s1 s2 s3 s4 s5 g1 g2 g3 g4 g4' g5 g6 m18 sc h0 cr sx e67 e68 e123 e1 q75 q62 t175 tq l188 new211 n76 k1 j0 j1; omega)), oq.2.2.1 198 k (by decide) k0 ck]
      have lt := xsf_l2 sc ⟨k0, ck⟩ ⟨j0, j1⟩
      have sk := sc.2.1 k k0 ck
      exact SRO_x (SRO_S (g1 k k0 ck j j0 j1) ox oq ⟨k0, ck⟩ lt (fun e => by unfold nsK at j1; rw [if_pos e] at j1; (clear S hnp hI P S' hz eM cm q76 cm1 cm2 cm4 rw1 rw2 rw3 rw4 ox oq gg k127 m67 m68 m123 n0 s1 s2 s3 s4 s5 g1 g2 g3 g4 g4' g5 g6 m18 sc h0 cr sx e67 e68 e123 e1 q75 q62 t175 tq l188 new211 n76 k0 k1 ck lt e; omega))) sx
    · exact SRO_x (s1 k (by (clear S hnp hI P S' hz eM cm q76 cm1 cm2 cm4 rw1 rw2 rw3 rw4 ox oq gg k127 m67 m68 m123 n0 s1 s2 s3 s4 s5 g1 g2 g3 g4 g4' g5 g6 m18 sc h0 cr sx e67 e68 e123 e1 q75 q62 t175 tq l188 new211 n76 k0 k1 j0 j1; omega)) k1 j j0 j1) sx
  · by_cases cT : T = np
    · rw [cT]
      refine ⟨⟨?_, fun l l0 l1 => ?_⟩, ?_⟩
      · rw [cr 127 (by decide) (by decide) (by decide)]; exact ATP_x s3 sx
      · rw [cr 129 (by decide) (by decide) (by decide)]; exact ATP_x (s2 l l0 (rw2 l l0 l1).1) sx
      · have b65 : ∀ x, 0 ≤ x → x < (n : Int) → 0 ≤ M' 65 x ∧ M' 65 x < 1024 := fun x x0 x1 => (rw1 x x0 x1).2.2.2.1.2
        obtain ⟨j1, j2⟩ := j0_b (M := M') n b65
        have c123 : M' 123 np = Me 123 np := by rw [e123, m123]
        refine ⟨N 6 76, n, c, j, by (clear S hnp hI P S' hz eM cm cm1 cm2 cm4 rw1 rw2 rw3 rw4 ox oq gg k127 m67 m68 m123 n0 s1 s2 s3 s4 s5 g1 g2 g3 g4 g4' g5 g6 m18 sc h0 cr sx e67 e68 e123 e1 q75 q62 t175 tq l188 new211 T0 T1 cT b65 j1 j2 c123; omega), ⟨by rw [e67 np, if_pos rfl], by rw [e68 np, if_pos rfl]⟩, ⟨cm1, by rw [← c123]; exact cm2⟩, ⟨fun l l0 => ?_, by rw [cm4]; exact j1⟩, fun me m0 m1 => ?_, fun l l0 l1 => (rw2 l l0 l1).2, fun me m0 m1 => ?_⟩
        · rw [cm4, j2 l l0]
          constructor
          · rintro ⟨x, hx, e⟩
            refine ⟨N 6 76 + x, by (clear S hnp hI P S' hz eM cm q76 cm1 cm2 cm4 rw1 rw2 rw3 rw4 ox oq gg k127 m67 m68 m123 n0 s1 s2 s3 s4 s5 g1 g2 g3 g4 g4' g5 g6 m18 sc h0 cr sx e67 e68 e123 e1 q75 q62 t175 tq l188 new211 n76 T0 T1 cT b65 j1 j2 c123 l0 e; omega), ?_⟩
            rw [← (rw1 x hx.1 hx.2).2.2.2.1.1]; exact e
          · rintro ⟨me, hm, e⟩
            refine ⟨me - N 6 76, by (clear S hnp hI P S' hz eM cm q76 cm1 cm2 cm4 rw1 rw2 rw3 rw4 ox oq gg k127 m67 m68 m123 n0 s1 s2 s3 s4 s5 g1 g2 g3 g4 g4' g5 g6 m18 sc h0 cr sx e67 e68 e123 e1 q75 q62 t175 tq l188 new211 n76 T0 T1 cT b65 j1 j2 c123 l0 e; omega), ?_⟩
            rw [(rw1 (me - N 6 76) (by (clear S hnp hI P S' hz eM cm q76 cm1 cm2 cm4 rw1 rw2 rw3 rw4 ox oq gg k127 m67 m68 m123 n0 s1 s2 s3 s4 s5 g1 g2 g3 g4 g4' g5 g6 m18 sc h0 cr sx e67 e68 e123 e1 q75 q62 t175 tq l188 new211 n76 T0 T1 cT b65 j1 j2 c123 l0 e; lia)) (by (clear S hnp hI P S' hz eM cm q76 cm1 cm2 cm4 rw1 rw2 rw3 rw4 ox oq gg k127 m67 m68 m123 n0 s1 s2 s3 s4 s5 g1 g2 g3 g4 g4' g5 g6 m18 sc h0 cr sx e67 e68 e123 e1 q75 q62 t175 tq l188 new211 n76 T0 T1 cT b65 j1 j2 c123 l0 e; omega))).2.2.2.1.1, show N 6 76 + (me - N 6 76) = me by (clear S hnp hI P S' hz eM cm q76 cm1 cm2 cm4 rw1 rw2 rw3 rw4 ox oq gg k127 m67 m68 m123 n0 s1 s2 s3 s4 s5 g1 g2 g3 g4 g4' g5 g6 m18 sc h0 cr sx e67 e68 e123 e1 q75 q62 t175 tq l188 new211 n76 T0 T1 cT b65 j1 j2 c123 l0 hm e; lia)]; exact e
        · constructor
          · intro e
            by_cases cm : me < N 6 76
            · rw [tq 211 me (by decide) m0 cm] at e
              have := g3 me m0 cm
              (clear S hnp hI P S' hz eM q76 cm1 cm2 cm4 rw1 rw2 rw3 rw4 ox oq gg k127 m67 m68 m123 n0 s1 s2 s3 s4 s5 g1 g2 g3 g4 g4' g5 g6 sc h0 cr sx e67 e68 e123 e1 q75 q62 t175 tq l188 new211 n76 T0 T1 b65 j1 j2 c123 m0 m1 cm; omega)
            · omega
          · intro e; exact new211 me e.1 (by omega)
        · have r := rw1 (me - N 6 76) (by omega) (by omega)
          rw [show N 6 76 + (me - N 6 76) = me by (clear S hnp hI P S' hz eM cm q76 cm1 cm2 cm4 rw1 rw2 rw3 rw4 ox oq gg k127 m67 m68 m123 n0 s1 s2 s3 s4 s5 g1 g2 g3 g4 g4' g5 g6 m18 sc h0 cr sx e67 e68 e123 e1 q75 q62 t175 tq l188 new211 n76 T0 T1 cT b65 j1 j2 c123 m0 m1 r; lia)] at r
          refine ⟨by rw [← r.2.2.1.1, ← c123]; exact r.2.2.1.2, by rw [← r.2.2.2.1.1]; exact r.2.2.2.1.2, fun e => ?_⟩
          rcases r.2.1 with z | z
          · exact absurd e z.2
          · exact z.2.2.2.1
    · have T2 : T < np := by (clear S hnp hI P S' hz eM cm q76 cm1 cm2 cm4 rw1 rw2 rw3 rw4 ox oq gg k127 m67 m68 m123 n0 s1 s2 s3 s4 s5 g1 g2 g3 g4 g4' g5 g6 sc h0 cr sx e67 e68 e123 e1 q75 q62 t175 tq l188 new211 n76 T0; lia)
      obtain ⟨⟨t1, t2⟩, t3⟩ := g2 T T0 T2
      have k7 := k127 T cT
      refine ⟨⟨?_, fun l l0 l1 => ?_⟩, ?_⟩
      · rw [cr 127 (by decide) (by decide) (by decide), k7.1, k7.2]; exact ATP_x (ATP_S t1 ox oq) sx
      · rw [t175] at l1
        have b175 : N 175 T ≤ 10 := by
          have := (S.1.2.2.1 T T0 (by (clear S hI P S' hz eM cm q76 cm1 cm2 cm4 rw1 rw2 rw3 rw4 ox oq gg k127 m67 m68 m123 n0 s1 s2 s3 s4 s5 g1 g2 g3 g4 g4' g5 g6 sc h0 cr sx e67 e68 e123 e1 q75 q62 t175 tq l188 new211 n76 T0 T1 cT t3 t1 t2 k7 l0 l1; omega))).2.2.2.2.1.1.1
          (clear S hnp hI P S' hz eM cm q76 cm1 cm2 cm4 rw1 rw2 rw3 rw4 ox oq gg k127 m67 m68 m123 n0 s1 s2 s3 s4 s5 g1 g2 g3 g4 g4' g5 g6 m18 sc h0 cr sx e67 e68 e123 e1 q75 q62 t175 tq l188 new211 n76 T0 T1 cT T2 t3 t1 t2 k7 l0 l1; omega)
        rw [cr 129 (by decide) (by decide) (by decide), ox.2.2.2.2 (10 * T + l) (by (clear S hnp hI P S' hz eM cm q76 cm1 cm2 cm4 rw1 rw2 rw3 rw4 ox oq gg k127 m67 m68 m123 n0 s1 s2 s3 s4 s5 g1 g2 g3 g4 g4' g5 g6 sc h0 cr sx e67 e68 e123 e1 q75 q62 t175 tq l188 new211 n76 T0 T1 cT t3 t1 t2 k7 l0; omega)), (l188 (10 * T + l) (by omega)).1]
        exact ATP_x (ATP_S (t2 l l0 l1) ox oq) sx
      · have b175 : N 175 T ≤ 10 := by
          have := (S.1.2.2.1 T T0 (by (clear S hI P S' hz eM cm q76 cm1 cm2 cm4 rw1 rw2 rw3 rw4 ox oq gg k127 m67 m68 m123 n0 s1 s2 s3 s4 s5 g1 g2 g3 g4 g4' g5 g6 sc h0 cr sx e67 e68 e123 e1 q75 q62 t175 tq l188 new211 n76 T0 T1 cT t3 t1 t2 k7; omega))).2.2.2.2.1.1.1
          (clear S hnp hI P S' hz eM cm q76 cm1 cm2 cm4 rw1 rw2 rw3 rw4 ox oq gg k127 m67 m68 m123 n0 s1 s2 s3 s4 s5 g1 g2 g3 g4 g4' g5 g6 m18 sc h0 cr sx e67 e68 e123 e1 q75 q62 t175 tq l188 new211 n76 T0 T1 cT T2 t3 t1 t2 k7; omega)
        exact WTY_c t3 (by rw [e67 T, if_neg cT]) (by rw [e68 T, if_neg cT]) (by rw [e123]) (by rw [t175]) (fun l l0 l1 => (l188 (10 * T + l) (by (clear S hnp hI P S' hz eM cm q76 cm1 cm2 cm4 rw1 rw2 rw3 rw4 ox oq gg k127 m67 m68 m123 n0 s1 s2 s3 s4 s5 g1 g2 g3 g4 g4' g5 g6 sc h0 cr sx e67 e68 e123 e1 q75 q62 t175 tq l188 new211 n76 T0 T1 cT t3 t1 t2 k7; omega))).2) (by omega) tq (fun me m0 m1 => by rw [new211 me m0 m1]; exact fun e => cT e.symm)
  · by_cases cm : me < N 6 76
    · rw [tq 211 me (by decide) m0 cm]
      have := g3 me m0 cm
      (clear S hnp hI P S' hz eM q76 cm1 cm2 cm4 rw1 rw2 rw3 rw4 ox oq gg k127 m67 m68 m123 n0 s1 s2 s3 s4 s5 g1 g2 g3 g4 g4' g5 g6 sc h0 cr sx e67 e68 e123 e1 q75 q62 t175 tq l188 new211 n76 m0 m1 cm; omega)
    · rw [new211 me (by omega) m1]; (clear S hnp hI P S' hz eM q76 cm1 cm2 cm4 rw1 rw2 rw3 rw4 ox oq gg k127 m67 m68 m123 n0 s1 s2 s3 s4 s5 g1 g2 g3 g4 g4' g5 g6 sc cr sx e67 e68 e123 e1 q75 q62 t175 tq l188 new211 n76 m0 m1 cm; omega)
  · rw [e1, s4.1 s s0 s1', g4 s s0 s1']
    have op := oq.2.2.2.2.2.1
    constructor
    · rintro (⟨k, hk, e1, e2⟩ | ⟨k, hk, e1, e2⟩)
      · exact ⟨k, by (clear S hnp hI P S' hz eM cm q76 cm1 cm2 cm4 rw1 rw2 rw3 rw4 ox oq gg k127 m67 m68 m123 n0 s1 s2 s3 s4 s5 g1 g2 g3 g4 g4' g5 g6 m18 sc h0 cr sx e67 e68 e123 q62 t175 tq l188 new211 n76 s0 s1' op e1 e2; omega), by rw [op 203 k (by decide) hk.1 hk.2]; exact e1, by rw [op 205 k (by decide) hk.1 hk.2]; exact e2⟩
      · exact ⟨k, by have := sc.1.2.2.1; (clear S hnp hI P S' hz eM cm q76 cm1 cm2 cm4 rw1 rw2 rw3 rw4 ox oq gg k127 m67 m68 m123 n0 s1 s2 s3 s4 s5 g1 g2 g3 g4 g4' g5 g6 m18 sc h0 cr sx e67 e68 e123 q75 q62 t175 tq l188 new211 n76 s0 s1' op e1 e2; omega), e1, e2⟩
    · rintro ⟨k, hk, e1, e2⟩
      by_cases ck : k < N 6 75
      · exact .inl ⟨k, ⟨hk.1, ck⟩, by rw [← op 203 k (by decide) hk.1 ck]; exact e1, by rw [← op 205 k (by decide) hk.1 ck]; exact e2⟩
      · exact .inr ⟨k, by (clear S hnp hI P S' hz eM cm q76 cm1 cm2 cm4 rw1 rw2 rw3 rw4 ox oq gg k127 m67 m68 m123 n0 s1 s2 s3 s4 s5 g1 g2 g3 g4 g4' g5 g6 m18 sc h0 cr sx e67 e68 e123 q75 q62 t175 tq l188 new211 n76 s0 s1' op e1 e2; omega), e1, e2⟩
  · rw [e1, s4.2 s s0 s1', g4' s s0 s1']
    have op := oq.2.2.2.2.2.1
    constructor
    · rintro (⟨k, hk, e1, e2⟩ | ⟨k, hk, e1, e2⟩)
      · exact ⟨k, by omega, by rw [op 203 k (by decide) hk.1 hk.2]; exact e1, by rw [op 205 k (by decide) hk.1 hk.2]; exact e2⟩
      · exact ⟨k, by have := sc.1.2.2.1; omega, e1, e2⟩
    · rintro ⟨k, hk, e1, e2⟩
      by_cases ck : k < N 6 75
      · exact .inl ⟨k, ⟨hk.1, ck⟩, by rw [← op 203 k (by decide) hk.1 ck]; exact e1, by rw [← op 205 k (by decide) hk.1 ck]; exact e2⟩
      · exact .inr ⟨k, by omega, e1, e2⟩
  · obtain ⟨t1, t2⟩ := s5 g5
    rw [e1]
    refine ⟨t1, fun s s0 s1' => ?_⟩
    rw [t2 s s0 s1', g6 s s0 s1']
    have sq := oq.2.2.1
    have si := oq.2.2.2.1
    constructor
    · rintro (⟨k, i, hk, e1, hi, e2⟩ | ⟨k, i, hk, e1, hi, e2⟩)
      · have sk := sc.2.1 k hk.1 hk.2
        exact ⟨k, i, by (clear S hnp hI P S' hz eM cm q76 cm1 cm2 cm4 rw1 rw2 rw3 rw4 ox oq gg k127 m67 m68 m123 n0 s1 s2 s3 s4 s5 g1 g2 g3 g4 g4' g5 g6 m18 sc h0 cr sx e67 e68 e123 q75 t175 tq l188 new211 n76 t1 t2 s0 s1' sq si e1 hi e2 sk; omega), by rw [sq 193 k (by decide) hk.1 hk.2]; exact e1, by rw [sq 198 k (by decide) hk.1 hk.2, sq 199 k (by decide) hk.1 hk.2]; exact hi, by rw [(si i (by (clear S hnp hI P S' hz eM cm q76 cm1 cm2 cm4 rw1 rw2 rw3 rw4 ox oq gg k127 m67 m68 m123 n0 s1 s2 s3 s4 s5 g1 g2 g3 g4 g4' g5 g6 m18 sc h0 cr sx e67 e68 e123 q75 q62 t175 tq l188 new211 n76 t1 t2 s0 s1' sq si hk e1 e2; omega)) (by (clear S hnp hI P S' hz eM cm q76 cm1 cm2 cm4 rw1 rw2 rw3 rw4 ox oq gg k127 m67 m68 m123 n0 s1 s2 s3 s4 s5 g1 g2 g3 g4 g4' g5 g6 m18 sc h0 cr sx e67 e68 e123 q75 q62 t175 tq l188 new211 n76 t1 t2 s0 s1' sq si hk e1 e2; omega))).1]; exact e2⟩
      · exact ⟨k, i, by have := sc.1.1; (clear S hnp hI P S' hz eM cm q76 cm1 cm2 cm4 rw1 rw2 rw3 rw4 ox oq gg k127 m67 m68 m123 n0 s1 s2 s3 s4 s5 g1 g2 g3 g4 g4' g5 g6 m18 sc h0 cr sx e67 e68 e123 q75 q62 t175 tq l188 new211 n76 t1 t2 s0 s1' sq si e1 hi e2; omega), e1, hi, e2⟩
    · rintro ⟨k, i, hk, e1, hi, e2⟩
      by_cases ck : k < N 6 62
      · have sk := sc.2.1 k hk.1 ck
        rw [sq 198 k (by decide) hk.1 ck, sq 199 k (by decide) hk.1 ck] at hi
        exact .inl ⟨k, i, ⟨hk.1, ck⟩, by rw [← sq 193 k (by decide) hk.1 ck]; exact e1, hi, by rw [← (si i (by omega) (by omega)).1]; exact e2⟩
      · exact .inr ⟨k, i, by (clear S hnp hI P S' hz eM cm q76 cm1 cm2 cm4 rw1 rw2 rw3 rw4 ox oq gg k127 m67 m68 m123 n0 s1 s2 s3 s4 s5 g1 g2 g3 g4 g4' g5 g6 m18 sc h0 cr sx e67 e68 e123 q75 q62 t175 tq l188 new211 n76 t1 t2 s0 s1' sq si e1 hi e2; omega), e1, hi, e2⟩
theorem GRX_2 [Inhabited gh_] : IV2 GRX := fun F F' M N M' N' Me a a' ns nr np S hnp hI P S' hM => ⟨GRW_2 S hnp hI.1 P S' hM, fun hz r r0 r1 => by
  obtain ⟨f, c, j, eM, cm⟩ := hM
  have pf := PRO_f S P
  have n0 := ((PRO_G S P).2.2 hz).1
  rw [eM, cmX_r (by decide) (by decide) (by decide), cmX_r (by decide) (by decide) (by decide), cmX_r (by decide) (by decide) (by decide), pf.1 114 (by decide), pf.1 115 (by decide), pf.1 116 (by decide)]
  exact hI.2 n0 r r0 r1⟩
end GWc
end T298_gw
section T299_ct
/-! Q.cut: the memory that it leaves, as one memory -/
section CUe
theorem l_219e [Inhabited gh_] {n : Int} {f : Int → Int} {M0 : mm_} (hn0 : 0 ≤ n) (hn : n ≤ 5000) (hb : ∀ i, 0 ≤ i → i < 5000 → -128 ≤ f i ∧ f i ≤ 127) (hw0 : Wd_ M0) (h0 : M0 146 = f) :
    ∀ (c m : Nat) (M : mm_) (k : Int), 1202 - m ≤ c → m ≤ 1201 → Fr_ [6, 149, 150, 151] M0 M → (∀ j, j ≠ 11 → M 6 j = M0 6 j) → M 6 11 = m → M 6 4 = n → 0 ≤ k → k ≤ n → bk_ f n k = ps_ f n m → TQ_ M f n m → (∀ j : Nat, j < m → ps_ f n j < n ∧ (qo_ f n (ps_ f n j)).1 ≠ 5) →
    ∃ (M' : mm_) (m' : Nat), (Fr_ [6, 149, 150, 151] M0 M' ∧ (∀ j, j ≠ 11 → M' 6 j = M0 6 j) ∧ M' 6 11 = m' ∧ QT_ M' f n m') ∧ ∀ (d : Nat) (V : vv_) (Qr : qr_) (Qt : qt_), Cl_ wd0 (Tr_ wd0 pg0 (d + 4)) V Qr Qt m_219 → Wk_ V → Qr [] M' → V 9 [rr 6, ii k, ii 0] [] M := by
  intro c
  induction c with
  | zero => intro m M k h1 h2; omega
  | succ c ih =>
    intro m M k hc hm hF hj h6 h4 hk0 hkn hps hT hg
    have e146 : M 146 = f := by rw [hF 146 (by decide)]; exact h0
    have hw : Wd_ M := by unfold Wd_; rw [hF 148 (by decide)]; exact hw0
    have hpr := ps_r f n hn0 m
    by_cases h1 : (m : Int) ≤ 1200
    · by_cases h2 : ps_ f n m < n
      · have hT' := TQ_tok (p := ps_ f n m) (k := (qo_ f n (ps_ f n m)).1) (v := (qo_ f n (ps_ f n m)).2.1) h6 hT rfl (fun _ => ⟨rfl, rfl⟩) (fun h => absurd h2 h)
        have c11 : tok_ M (qo_ f n (ps_ f n m)).1 (ps_ f n m) (qo_ f n (ps_ f n m)).2.1 6 11 = ((m + 1 : Nat) : Int) := by unfold tok_; rw [up_at, h6]; omega
        have cj : ∀ j, j ≠ 11 → tok_ M (qo_ f n (ps_ f n m)).1 (ps_ f n m) (qo_ f n (ps_ f n m)).2.1 6 j = M0 6 j := fun j h => by unfold tok_; rw [up_off h, up_ne (by decide), up_ne (by decide), up_ne (by decide)]; exact hj j h
        have cF : Fr_ [6, 149, 150, 151] M0 (tok_ M (qo_ f n (ps_ f n m)).1 (ps_ f n m) (qo_ f n (ps_ f n m)).2.1) := Fr_up (Fr_up (Fr_up (Fr_up hF (by decide)) (by decide)) (by decide)) (by decide)
        have h149 := ((hT' m (by omega)).2.1 h2).1
        have em : (((m + 1 : Nat) : Int) - 1) = (m : Int) := by omega
        have go : ∀ {V : vv_} {Qr : qr_} {Qt : qt_} {d : Nat}, Cl_ wd0 (Tr_ wd0 pg0 (d + 4)) V Qr Qt m_219 → Wk_ V → (if (qo_ f n (ps_ f n m)).1 = 5 then V 9 [rr 6, ii (qo_ f n (ps_ f n m)).2.2, ii 1] [] (tok_ M (qo_ f n (ps_ f n m)).1 (ps_ f n m) (qo_ f n (ps_ f n m)).2.1) else V 9 [rr 6, ii (qo_ f n (ps_ f n m)).2.2, ii 0] [] (tok_ M (qo_ f n (ps_ f n m)).1 (ps_ f n m) (qo_ f n (ps_ f n m)).2.1)) → V 9 [rr 6, ii k, ii 0] [] M := fun {V Qr Qt d} hV hW h => by
          refine b_219_9 (Tr_mono _) hV hW k 0 M ?_
          rw [if_pos rfl, h6, if_pos h1]
          refine s_220 (by rw [h4]; exact hn) (by rw [e146]; exact hb) hk0 ?_
          rw [e146, h4, hps, if_pos h2]
          refine s_222 hw (by rw [h4]; exact hn) (by rw [h6]; (clear hn0 hn hb hw0 h0 ih hc hF hj h4 hk0 hkn hps hT hg e146 hw hpr h2 hT' cj cF h149 em hV hW h; lia)) (by rw [h6]; omega) hpr.1 (by rw [h4]; exact h2) ?_
          rw [e146, h4, c11, w32_id (by (clear hn0 hn hb hw0 h0 ih hc hF hj h4 hk0 hkn hps hT hg e146 hw hpr h2 hT' cj cF h149 em hV hW h; lia)) (by omega), em, h149]
          exact ⟨by (clear hn0 hn hb hw0 h0 ih hc hF hj h4 hk0 hkn hps hT hg e146 hw hpr h2 hT' cj cF h149 em hV hW h; lia), h⟩
        generalize hM1 : tok_ M (qo_ f n (ps_ f n m)).1 (ps_ f n m) (qo_ f n (ps_ f n m)).2.1 = M1 at *
        by_cases h3 : (qo_ f n (ps_ f n m)).1 = 5
        · refine ⟨M1, m + 1, ⟨cF, cj, c11, hT', fun j hj2 => hg j (by (clear hn0 hn hb hw0 h0 ih hc hm hF hj h4 hk0 hkn hps hT hg e146 hw hpr h1 h2 em hM1 hT' cj cF h149 go h3; omega)), by (clear hn0 hn hb hw0 h0 ih hc hF hj h4 hk0 hkn hps hT hg e146 hw hpr h2 em hM1 hT' cj cF h149 go h3; lia), by (clear hn0 hn hb hw0 h0 ih hc hF hj h4 hk0 hkn hps hT hg e146 hw hpr h2 em hM1 hT' cj cF h149 go h3; lia), .inr (.inl h3)⟩, fun d V Qr Qt hV hW hq => go hV hW ?_⟩
          rw [if_pos h3]
          refine b_219_9 (Tr_mono _) hV hW _ 1 M1 ?_
          rw [if_neg (by decide), if_neg (by decide)]; exact hq
        · obtain ⟨M', m', hp, hv⟩ := ih (m + 1) M1 (qo_ f n (ps_ f n m)).2.2 (by omega) (by omega) cF cj c11 (by rw [cj 4 (by decide), ← hj 4 (by decide)]; exact h4) (by rw [qo_end h2]; have := tk_end (f := f) hpr.2; (clear hn0 hn hb hw0 h0 ih hc hm hF hj h6 h4 hk0 hkn hps hT hg e146 hw h1 h2 em hM1 hT' c11 cj cF h149 go h3; omega)) (by rw [qo_end h2]; have := tk_end (f := f) hpr.2; (clear hn0 hn hb hw0 h0 ih hc hm hF hj h6 hk0 hkn hps hT hg e146 hw hpr h1 h2 em hM1 hT' c11 cj cF h149 go h3; omega)) (by rw [qo_end h2]; rfl) hT' (fun j hj2 => by
            by_cases h9 : j = m
            · rw [h9]; exact ⟨h2, h3⟩
            · exact hg j (by (clear hn0 hn hb hw0 h0 ih hc hm hF hj h4 hk0 hkn hps hT hg e146 hw hpr h1 h2 em hM1 hT' cj cF h149 go h3; omega)))
          refine ⟨M', m', hp, fun d V Qr Qt hV hW hq => go hV hW ?_⟩
          rw [if_neg h3]; exact hv d V Qr Qt hV hW hq
      · have e : ps_ f n m = n := by (clear hn0 hn hb hw0 h0 ih hc hm hF hj h6 hk0 hkn hps hT hg e146 hw h1; lia)
        have hT' := TQ_tok (p := n) (k := 0) (v := 0) h6 hT e.symm (fun h => absurd h h2) (fun _ => ⟨rfl, rfl⟩)
        refine ⟨tok_ M 0 n 0, m + 1, ⟨Fr_up (Fr_up (Fr_up (Fr_up hF (by decide)) (by decide)) (by decide)) (by decide), fun j h => by unfold tok_; rw [up_off h, up_ne (by decide), up_ne (by decide), up_ne (by decide)]; exact hj j h, by unfold tok_; rw [up_at, h6]; (clear hn0 hn hb hw0 h0 ih hc hm hF hj h6 h4 hk0 hkn hps hT hg e146 hw hpr h1 h2 e hT'; lia), hT', fun j hj2 => hg j (by (clear hn0 hn hb hw0 h0 ih hc hm hF hj h4 hk0 hkn hps hT hg e146 hw hpr h1 h2 e hT'; omega)), by (clear hn0 hn hb hw0 h0 ih hc hF hj h4 hk0 hkn hps hT hg e146 hw hpr h2 e hT'; lia), by (clear hn0 hn hb hw0 h0 ih hc hF hj h4 hk0 hkn hps hT hg e146 hw hpr h2 e hT'; lia), .inl h2⟩, fun d V Qr Qt hV hW hq => ?_⟩
        refine b_219_9 (Tr_mono _) hV hW k 0 M ?_
        rw [if_pos rfl, h6, if_pos h1]
        refine s_220 (by rw [h4]; exact hn) (by rw [e146]; exact hb) hk0 ?_
        rw [e146, h4, hps, if_neg h2, if_pos rfl, h6, if_pos h1]
        exact s_224 (by rw [h6]; omega) (by rw [h6]; omega) hq
    · have e : m = 1201 := by (clear hn0 hn hb hw0 h0 ih hc hF hj h4 hk0 hkn hps hT hg e146 hw hpr; lia)
      refine ⟨M, m, ⟨hF, hj, h6, hT, fun j hj2 => hg j (by (clear hn0 hn hb hw0 h0 ih hc hF hj h4 hk0 hkn hps hT hg e146 hw hpr e; lia)), by omega, by omega, .inr (.inr e)⟩, fun d V Qr Qt hV hW hq => ?_⟩
      refine b_219_9 (Tr_mono _) hV hW k 0 M ?_
      rw [if_pos rfl, h6, if_neg h1, if_pos rfl, if_neg h1]; exact hq
theorem s_219e [Inhabited gh_] {M : mm_} (hn0 : 0 ≤ M 6 4) (hn : M 6 4 ≤ 5000) (hw : Wd_ M) (hb : ∀ i, 0 ≤ i → i < 5000 → -128 ≤ M 146 i ∧ M 146 i ≤ 127) :
    ∃ (M' : mm_) (m : Nat), (Fr_ [6, 149, 150, 151] M M' ∧ (∀ j, j ≠ 11 → M' 6 j = M 6 j) ∧ QT_ M' (M 146) (M 6 4) m) ∧ ∀ (d : Nat) (Kv : mm_ → Prop) (Qt : qt_), Kv M' → Tr_ wd0 pg0 (d + 5) 219 [.inr (.inr 6)] M (rv_ Kv) Qt := by
  obtain ⟨M', m, ⟨h1, h2, h3, h4⟩, h5⟩ := l_219e (M0 := up_ M 6 11 0) (f := M 146) (n := M 6 4) hn0 hn hb (by unfold Wd_; rw [up_ne (by decide)]; exact hw) (by rw [up_ne (by decide)]) 1202 0 (up_ M 6 11 0) 0 (by omega) (by omega) Fr_rf (fun _ _ => rfl) (by rw [up_at]; rfl) (by rw [up_off (by decide)]) (Int.le_refl _) hn0 rfl (fun i hi => absurd hi (by omega)) (fun i hi => absurd hi (by omega))
  exact ⟨M', m, ⟨Fr_tr (Fr_up Fr_rf (by decide)) h1, fun j h => by rw [h2 j h, up_off h], h4⟩, fun d Kv Qt hk => t_219 fun V hV hW => b_219_0 (Tr_mono _) hV hW M (h5 d V _ Qt hV hW (rv_i hk))⟩
end CUe
end T299_ct
section T300_bs
/-! bits of a mask, and of its complement -/
section BTs
theorem ti_of {x : Int} (h0 : -2147483648 ≤ x) (h1 : x < 2147483648) : (Int32.ofInt x).toInt = x := by
  rw [Int32.toInt_ofInt]
  exact Int.bmod_eq_of_le (by show -(((4294967296 : Nat) : Int) / 2) ≤ x; omega) (by show x < (((4294967296 : Nat) : Int) + 1) / 2; omega)
theorem xo_n1 {c : Int} (h0 : 0 ≤ c) (h1 : c < 2147483648) : xo_ c (-1) = -c - 1 := by
  unfold xo_
  have e : Int32.ofInt (-1) = -1 := by decide
  rw [e, Int32.xor_neg_one, Int32.toInt_not, ti_of (by omega) h1]
  exact Int.bmod_eq_of_le (by omega) (by omega)
theorem sr_i {x : Int} {k : Nat} (h0 : -2147483648 ≤ x) (h1 : x < 2147483648) (hk : k < 32) : sr_ x (k : Int) = x / ((2 ^ k : Nat) : Int) := by
  unfold sr_
  show (Int32.toBitVec (_ >>> _)).toInt = _
  rw [Int32.toBitVec_shiftRight]
  have h9 := sh_amt hk
  simp only [BitVec.sshiftRight_eq', h9]
  rw [BitVec.toInt_sshiftRight]
  have : (Int32.ofInt x).toBitVec.toInt = x := ti_of h0 h1
  rw [this, Int.shiftRight_eq_div_pow]
theorem an_1 {y : Int} (h0 : -2147483648 ≤ y) (h1 : y < 2147483648) : an_ y 1 = y % 2 := by
  unfold an_
  show (Int32.toBitVec (_ &&& _)).toInt = _
  rw [Int32.toBitVec_and]
  have e1 : (Int32.ofInt 1).toBitVec = 1#32 := by decide
  rw [e1]
  have e2 : ((Int32.ofInt y).toBitVec &&& 1#32).toNat = (Int32.ofInt y).toBitVec.toNat % 2 := by
    rw [BitVec.toNat_and]
    show _ &&& 1 = _
    rw [Nat.and_one_is_mod]
  have e3 : (Int32.ofInt y).toBitVec.toInt = y := ti_of h0 h1
  have e4 : ((Int32.ofInt y).toBitVec &&& 1#32).toInt = (((Int32.ofInt y).toBitVec &&& 1#32).toNat : Int) := by
    rw [BitVec.toInt_eq_toNat_of_lt]
    rw [e2]; omega
  rw [e4, e2]
  have e5 := BitVec.toInt_eq_toNat_cond (Int32.ofInt y).toBitVec
  rw [e3] at e5
  split at e5 <;> (clear h0 h1 e1; lia)
theorem bt_d {c s : Int} (h0 : 0 ≤ c) (hs : 0 ≤ s) : bt_ c s ↔ (c / ((2 ^ s.toNat : Nat) : Int)) % 2 = 1 := by
  unfold bt_
  rw [Nat.testBit_eq_decide_div_mod_eq]
  obtain ⟨m, hm⟩ := Int.eq_ofNat_of_zero_le h0
  subst hm
  rw [decide_eq_true_iff, Int.toNat_natCast]
  constructor
  · intro h
    have : (((m / 2 ^ s.toNat % 2 : Nat)) : Int) = 1 := by rw [h]; rfl
    rw [← this]; simp
  · intro h
    have : (((m / 2 ^ s.toNat % 2 : Nat)) : Int) = 1 := by rw [← h]; simp
    (clear hs h0; lia)
theorem an_sr {c s : Int} (h0 : 0 ≤ c) (h1 : c < 2147483648) (hs : 0 ≤ s) (hs1 : s < 31) : (an_ (sr_ c s) 1 = 0 ↔ ¬ bt_ c s) ∧ (an_ (sr_ c s) 1 = 1 ↔ bt_ c s) := by
  obtain ⟨k, hk⟩ := Int.eq_ofNat_of_zero_le hs
  have e : sr_ c s = c / ((2 ^ s.toNat : Nat) : Int) := by
    rw [hk, sr_i (by omega) h1 (by omega), Int.toNat_natCast]
  have p : (0 : Int) < ((2 ^ s.toNat : Nat) : Int) := by
    have := Nat.two_pow_pos s.toNat; omega
  have d0 : 0 ≤ c / ((2 ^ s.toNat : Nat) : Int) := Int.ediv_nonneg h0 (Int.le_of_lt p)
  have d1 : c / ((2 ^ s.toNat : Nat) : Int) ≤ c := Int.ediv_le_self _ h0
  rw [e, an_1 (by omega) (by omega), bt_d h0 hs]
  constructor <;> constructor <;> omega
theorem an_srn {c s : Int} (h0 : 0 ≤ c) (h1 : c < 2147483648) (hs : 0 ≤ s) (hs1 : s < 31) : an_ (sr_ (xo_ c (-1)) s) 1 = 0 ↔ bt_ c s := by
  obtain ⟨k, hk⟩ := Int.eq_ofNat_of_zero_le hs
  have e : sr_ (xo_ c (-1)) s = (-c - 1) / ((2 ^ s.toNat : Nat) : Int) := by
    rw [xo_n1 h0 h1, hk, sr_i (by omega) (by omega) (by omega), Int.toNat_natCast]
  have p : (0 : Int) < ((2 ^ s.toNat : Nat) : Int) := by
    have := Nat.two_pow_pos s.toNat; omega
  have d0 : 0 ≤ c / ((2 ^ s.toNat : Nat) : Int) := Int.ediv_nonneg h0 (Int.le_of_lt p)
  have d1 : c / ((2 ^ s.toNat : Nat) : Int) ≤ c := Int.ediv_le_self _ h0
  have q : (-c - 1) / ((2 ^ s.toNat : Nat) : Int) = -(c / ((2 ^ s.toNat : Nat) : Int)) - 1 := by
    generalize ((2 ^ s.toNat : Nat) : Int) = m at *
    have a1 := Int.mul_ediv_add_emod c m
    have a2 := Int.emod_nonneg c (show m ≠ 0 by omega)
    have a3 := Int.emod_lt_of_pos c p
    rw [show (-c - 1 : Int) = (m - 1 - c % m) + m * (-(c / m) - 1) by rw [Int.mul_sub, Int.mul_neg]; (clear h0 h1 hs hs1 hk e p d0 d1 a2 a3; lia)]
    rw [Int.add_mul_ediv_left _ _ (by omega), Int.ediv_eq_zero_of_lt (by omega) (by omega)]; omega
  rw [e, q, an_1 (by omega) (by omega), bt_d h0 hs]
  constructor <;> omega
end BTs
end T300_bs
section T301_wl
/-! warnings: a stack of pairs (kind, place), the greatest on top -/
def wgt (x p : Int × Int) : Prop := p.2 < x.2 ∨ (x.2 = p.2 ∧ p.1 < x.1)
def insR (p : Int × Int) : List (Int × Int) → List (Int × Int)
  | [] => [p]
  | x :: t => if p.2 < x.2 ∨ (x.2 = p.2 ∧ p.1 < x.1) then x :: insR p t else p :: x :: t
/-- the stack lies in two rows -/
def WAr (A B : Int → Int) : List (Int × Int) → Prop
  | [] => True
  | x :: t => (A t.length = x.1 ∧ B t.length = x.2) ∧ WAr A B t
def inA (l : List (Int × Int)) (R : List (Int × Int)) : List (Int × Int) := l.foldl (fun R p => insR p R) R
section WLa
variable {A B A' B' : Int → Int} {p q x : Int × Int} {R t l l' : List (Int × Int)}
theorem insR_len : ∀ R : List (Int × Int), (insR p R).length = R.length + 1
  | [] => rfl
  | x :: t => by
    unfold insR
    split
    · simp [insR_len t]
    · rfl
theorem insR_c : ∀ R : List (Int × Int), insR p (insR q R) = insR q (insR p R)
  | [] => by
    show (if p.2 < q.2 ∨ (q.2 = p.2 ∧ p.1 < q.1) then [q, p] else [p, q]) = (if q.2 < p.2 ∨ (p.2 = q.2 ∧ q.1 < p.1) then [p, q] else [q, p])
    by_cases c3 : p.2 < q.2 ∨ (q.2 = p.2 ∧ p.1 < q.1)
    · rw [if_pos c3, if_neg (by omega)]
    · rw [if_neg c3]
      by_cases c4 : q.2 < p.2 ∨ (p.2 = q.2 ∧ q.1 < p.1)
      · rw [if_pos c4]
      · rw [if_neg c4]
        have h : p = q := Prod.ext (by lia) (by omega)
        rw [h]
  | x :: t => by
    have ih := insR_c t
    by_cases c1 : q.2 < x.2 ∨ (x.2 = q.2 ∧ q.1 < x.1)
    · by_cases c2 : p.2 < x.2 ∨ (x.2 = p.2 ∧ p.1 < x.1)
      · have e1 : insR q (x :: t) = x :: insR q t := by show (if _ then _ else _) = _; rw [if_pos c1]
        have e2 : insR p (x :: t) = x :: insR p t := by show (if _ then _ else _) = _; rw [if_pos c2]
        rw [e1, e2]
        show (if _ then _ else _) = (if _ then _ else _)
        rw [if_pos c2, if_pos c1, ih]
      · have e1 : insR q (x :: t) = x :: insR q t := by show (if _ then _ else _) = _; rw [if_pos c1]
        have e2 : insR p (x :: t) = p :: x :: t := by show (if _ then _ else _) = _; rw [if_neg c2]
        rw [e1, e2]
        show (if _ then _ else _) = (if _ then _ else _)
        rw [if_neg c2, if_pos (by omega), e1]
    · by_cases c2 : p.2 < x.2 ∨ (x.2 = p.2 ∧ p.1 < x.1)
      · have e1 : insR q (x :: t) = q :: x :: t := by show (if _ then _ else _) = _; rw [if_neg c1]
        have e2 : insR p (x :: t) = x :: insR p t := by show (if _ then _ else _) = _; rw [if_pos c2]
        rw [e1, e2]
        show (if _ then _ else _) = (if _ then _ else _)
        rw [if_neg c1, if_pos (by omega), e2]
      · have e1 : insR q (x :: t) = q :: x :: t := by show (if _ then _ else _) = _; rw [if_neg c1]
        have e2 : insR p (x :: t) = p :: x :: t := by show (if _ then _ else _) = _; rw [if_neg c2]
        rw [e1, e2]
        show (if _ then _ else _) = (if _ then _ else _)
        by_cases c3 : p.2 < q.2 ∨ (q.2 = p.2 ∧ p.1 < q.1)
        · rw [if_pos c3, if_neg (by (clear ih c1 c2 e1 e2; omega)), e2]
        · rw [if_neg c3]
          by_cases c4 : q.2 < p.2 ∨ (p.2 = q.2 ∧ q.1 < p.1)
          · rw [if_pos c4, e1]
          · rw [if_neg c4]
            have h : p = q := Prod.ext (by (clear ih c1 c2 e1 e2; omega)) (by omega)
            rw [h]
theorem inA_app : inA (l ++ l') R = inA l' (inA l R) := by unfold inA; rw [List.foldl_append]
theorem inA_one : ∀ (l : List (Int × Int)) (R : List (Int × Int)), inA l (insR p R) = insR p (inA l R)
  | [], _ => rfl
  | y :: l, R => by
    show inA l (insR y (insR p R)) = insR p (inA l (insR y R))
    rw [insR_c, inA_one l]
theorem inA_swap : ∀ (l l' : List (Int × Int)) (R : List (Int × Int)), inA l (inA l' R) = inA l' (inA l R)
  | [], _, _ => rfl
  | y :: l, l', R => by
    show inA l (insR y (inA l' R)) = inA l' (inA l (insR y R))
    rw [← inA_one l' R, inA_swap l l']
theorem WAr_c : ∀ R : List (Int × Int), WAr A B R → (∀ i, 0 ≤ i → i < (R.length : Int) → A' i = A i ∧ B' i = B i) → WAr A' B' R
  | [], _, _ => trivial
  | x :: t, h, hc => by
    have e := hc t.length (by (clear h hc; lia)) (by simp; omega)
    refine ⟨by rw [e.1, e.2]; exact h.1, WAr_c t h.2 (fun i i0 i1 => hc i i0 (by simp; (clear h hc e i0; omega)))⟩
end WLa
end T301_wl
section T302_wl
/-! warnings: one more (X 180 | Q 318) -/
section WLb
variable {d : Nat} {Kv : mm_ → Prop} {Qt : qt_} {V : vv_} {x1 x2 p n : Int}
theorem WAr_ins [Inhabited gh_] {A' B' : Int → Int} {y q : Int × Int} {t : List (Int × Int)} (h : WAr A' B' (insR q t)) (c : q.2 < y.2 ∨ (y.2 = q.2 ∧ q.1 < y.1)) (e1 : A' ((t.length : Int) + 1) = y.1) (e2 : B' ((t.length : Int) + 1) = y.2) : WAr A' B' (insR q (y :: t)) := by
  show WAr A' B' (if _ then _ else _)
  rw [if_pos c]
  have e : ((insR q t).length : Int) = (t.length : Int) + 1 := by rw [insR_len]; (clear h c e1 e2; lia)
  exact ⟨by rw [e]; exact ⟨e1, e2⟩, h⟩
theorem l_180 [Inhabited gh_] (hV : Cl_ wd0 (Tr_ wd0 pg0 d) V (rv_ Kv) Qt m_180) (hW : Wk_ V) : ∀ (R : List (Int × Int)) (M : mm_), M 1 2 = 5 → R.length < 200 → (0 ≤ M 5 36 ∧ M 5 36 < 200) → WAr (M 143) (M 144) R
    → (∀ M', (∀ k : Nat, k ∉ [5, 143, 144] → M' k = M k) → (∀ i : Int, i ≠ 36 → M' 5 i = M 5 i) → M' 5 36 = M 5 36 + 1 → (∀ i, (R.length : Int) < i → M' 143 i = M 143 i ∧ M' 144 i = M 144 i) → WAr (M' 143) (M' 144) (insR (x1, p) R) → Kv M')
    → V 19 [rr 1, ii x1, ii x2, ii p, ii (R.length : Int)] [] M
  | R, M, h2, hl, h36, hA, hK => by
    -- where it is put
    have put : ∀ R' : List (Int × Int), R' = R → insR (x1, p) R' = (x1, p) :: R' → V 122 [rr 1, ii x1, ii x2, ii p, ii (R.length : Int)] [] M := fun R' eR e => by
      refine b_180_122 (Tr_mono _) hV hW _ _ _ _ _ ?_
      rw [w32_id (x := M 5 36 + 1) (by omega) (by omega)]
      refine ⟨h2, by omega, h2, by omega, h2, rv_i (hK _ (fun k hk => ?_) (fun i hi => ?_) up_at (fun i hi => ?_) ?_)⟩
      · rw [up_ne (fun e => hk (by rw [e]; decide)), up_ne (fun e => hk (by rw [e]; decide)), up_ne (fun e => hk (by rw [e]; decide))]
      · rw [up_of2 hi, up_ne (by decide), up_ne (by decide)]
      · have ne : i ≠ (R.length : Int) := by omega
        rw [up_ne (by decide), up_ne (by decide), up_of2 ne, up_ne (by decide), up_of2 ne, up_ne (by decide)]
        exact ⟨rfl, rfl⟩
      · rw [← eR, e]
        refine ⟨⟨?_, ?_⟩, ?_⟩
        · rw [eR, up_ne (by decide), up_ne (by decide), up_at]
        · rw [eR, up_ne (by decide), up_at]
        · rw [eR]
          refine WAr_c R hA (fun i i0 i1 => ?_)
          have ne : i ≠ (R.length : Int) := by omega
          rw [up_ne (by decide), up_ne (by decide), up_of2 ne, up_ne (by decide), up_of2 ne, up_ne (by decide)]
          exact ⟨rfl, rfl⟩
    refine b_180_19 (Tr_mono _) hV hW _ _ _ _ _ ?_
    match R, hA, put with
    | [], _, put =>
      rw [if_pos (by simp)]
      exact put [] rfl rfl
    | y :: t, hA, put =>
      have el : (((y :: t).length : Nat) : Int) = (t.length : Int) + 1 := by simp
      have hl' : (t.length : Int) + 1 < 200 := by rw [← el]; omega
      rw [el, if_neg (by omega), show (t.length : Int) + 1 - 1 = t.length by omega, w32_id (x := (t.length : Int)) (by omega) (by omega), hA.1.1, hA.1.2]
      rw [el] at put hK
      have stop : ¬ (p < y.2 ∨ (y.2 = p ∧ x1 < y.1)) → V 122 [rr 1, ii x1, ii x2, ii p, ii ((t.length : Int) + 1)] [] M := fun c => put (y :: t) rfl (by show (if _ then _ else _) = _; rw [if_neg c])
      have go : (p < y.2 ∨ (y.2 = p ∧ x1 < y.1)) → V 72 [rr 1, ii x1, ii x2, ii p, ii ((t.length : Int) + 1)] [] M := fun c => by
        refine b_180_72 (Tr_mono _) hV hW _ _ _ _ _ ?_
        rw [show (t.length : Int) + 1 - 1 = t.length by omega, w32_id (x := (t.length : Int)) (by omega) (by omega), show (t.length : Int) + 1 + -1 = t.length by omega, w32_id (x := (t.length : Int)) (by omega) (by omega), hA.1.1, hA.1.2]
        refine ⟨h2, h2, by (clear hV hW h2 h36 hA put hK hl' stop c; omega), by omega, h2, h2, by omega, by omega, ?_⟩
        have e143 : up_ (up_ M 143 ((t.length : Int) + 1) y.1) 144 ((t.length : Int) + 1) y.2 143 ((t.length : Int) + 1) = y.1 := by rw [up_ne (by decide), up_at]
        have e144 : up_ (up_ M 143 ((t.length : Int) + 1) y.1) 144 ((t.length : Int) + 1) y.2 144 ((t.length : Int) + 1) = y.2 := up_at
        have eo : ∀ i, i ≠ (t.length : Int) + 1 → up_ (up_ M 143 ((t.length : Int) + 1) y.1) 144 ((t.length : Int) + 1) y.2 143 i = M 143 i ∧ up_ (up_ M 143 ((t.length : Int) + 1) y.1) 144 ((t.length : Int) + 1) y.2 144 i = M 144 i := fun i hi => by
          rw [up_ne (by decide), up_of2 hi, up_of2 hi, up_ne (by decide)]; exact ⟨rfl, rfl⟩
        have ek : ∀ k : Nat, k ≠ 143 → k ≠ 144 → up_ (up_ M 143 ((t.length : Int) + 1) y.1) 144 ((t.length : Int) + 1) y.2 k = M k := fun k h1 h3 => by rw [up_ne h3, up_ne h1]
        generalize up_ (up_ M 143 ((t.length : Int) + 1) y.1) 144 ((t.length : Int) + 1) y.2 = M1 at *
        have e5 := ek 5 (by decide) (by decide)
        refine l_180 hV hW t M1 (by rw [ek 1 (by decide) (by decide)]; exact h2) (by omega) (by rw [e5]; exact h36) (WAr_c t hA.2 (fun i i0 i1 => eo i (by omega))) (fun M' f1 f2 f3 f4 f5 => hK M' (fun k hk => ?_) (fun i hi => by rw [f2 i hi, e5]) (by rw [f3, e5]) (fun i hi => ?_) (WAr_ins f5 c ?_ ?_))
        · rw [f1 k hk, ek k (fun e => hk (by rw [e]; decide)) (fun e => hk (by rw [e]; decide))]
        · rw [(f4 i (by omega)).1, (f4 i (by omega)).2]; exact eo i (by omega)
        · rw [(f4 _ (by omega)).1]; exact e143
        · rw [(f4 _ (by omega)).2]; exact e144
      refine ⟨h2, by omega, ?_⟩
      by_cases c1 : y.2 ≤ p
      · rw [if_pos c1]
        refine ⟨h2, by omega, ?_⟩
        by_cases c2 : y.2 = p
        · rw [if_pos c2]
          refine ⟨h2, by omega, ?_⟩
          by_cases c3 : y.1 ≤ x1
          · rw [if_pos c3]; exact stop (by omega)
          · rw [if_neg c3]; exact go (by omega)
        · rw [if_neg c2]; exact stop (by (clear hV hW h2 h36 hA put hl hK el hl' stop go; omega))
      · rw [if_neg c1]; exact go (by (clear hV hW h2 h36 hA put hl hK el hl' stop go; omega))
termination_by R => R.length
theorem x_180 [Inhabited gh_] {M : mm_} {R : List (Int × Int)} (h2 : M 1 2 = 5) (hx : 0 ≤ x2 ∧ x2 < 1202) (h36 : M 5 36 = (R.length : Int)) (hl : R.length < 200) (hA : WAr (M 143) (M 144) R)
    (hK : ∀ M', (∀ k : Nat, k ∉ [5, 143, 144] → M' k = M k) → (∀ i : Int, i ≠ 36 → M' 5 i = M 5 i) → M' 5 36 = ((insR (x1, M 71 x2) R).length : Int) → WAr (M' 143) (M' 144) (insR (x1, M 71 x2) R) → Kv M') : Tr_ wd0 pg0 (d + 1) 180 [.inr (.inr 1), .inl x1, .inl x2] M (rv_ Kv) Qt := by
  refine t_180 fun V hV hW => b_180_0 (Tr_mono _) hV hW _ _ _ ⟨hx, h2, ?_⟩
  rw [h36]
  exact l_180 hV hW R M h2 hl (by rw [h36]; omega) hA (fun M' f1 f2 f3 _ f5 => hK M' f1 f2 (by rw [f3, h36, insR_len]; (clear h2 hx h36 hl hA hK hV hW f1 f2 f3 f5; omega)) f5)
theorem l_318 [Inhabited gh_] (hV : Cl_ wd0 (Tr_ wd0 pg0 d) V (rv_ Kv) Qt m_318) (hW : Wk_ V) : ∀ (R : List (Int × Int)) (M : mm_), R.length < 400 → (0 ≤ M 6 120 ∧ M 6 120 < 400) → WAr (M 235) (M 236) R
    → (∀ M', (∀ k : Nat, k ∉ [6, 235, 236] → M' k = M k) → (∀ i : Int, i ≠ 120 → M' 6 i = M 6 i) → M' 6 120 = M 6 120 + 1 → (∀ i, (R.length : Int) < i → M' 235 i = M 235 i ∧ M' 236 i = M 236 i) → WAr (M' 235) (M' 236) (insR (x1, p) R) → Kv M')
    → V 5 [rr 6, ii x1, ii p, ii (R.length : Int)] [] M
  | R, M, hl, h36, hA, hK => by
    -- where it is put
    have put : ∀ R' : List (Int × Int), R' = R → insR (x1, p) R' = (x1, p) :: R' → V 79 [rr 6, ii x1, ii p, ii (R.length : Int)] [] M := fun R' eR e => by
      refine b_318_79 (Tr_mono _) hV hW _ _ _ _ ?_
      rw [w32_id (x := M 6 120 + 1) (by omega) (by omega)]
      refine ⟨by omega, by omega, rv_i (hK _ (fun k hk => ?_) (fun i hi => ?_) up_at (fun i hi => ?_) ?_)⟩
      · rw [up_ne (fun e => hk (by rw [e]; decide)), up_ne (fun e => hk (by rw [e]; decide)), up_ne (fun e => hk (by rw [e]; decide))]
      · rw [up_of2 hi, up_ne (by decide), up_ne (by decide)]
      · have ne : i ≠ (R.length : Int) := by omega
        rw [up_ne (by decide), up_ne (by decide), up_of2 ne, up_ne (by decide), up_of2 ne, up_ne (by decide)]
        exact ⟨rfl, rfl⟩
      · rw [← eR, e]
        refine ⟨⟨?_, ?_⟩, ?_⟩
        · rw [eR, up_ne (by decide), up_ne (by decide), up_at]
        · rw [eR, up_ne (by decide), up_at]
        · rw [eR]
          refine WAr_c R hA (fun i i0 i1 => ?_)
          have ne : i ≠ (R.length : Int) := by omega
          rw [up_ne (by decide), up_ne (by decide), up_of2 ne, up_ne (by decide), up_of2 ne, up_ne (by decide)]
          exact ⟨rfl, rfl⟩
    refine b_318_5 (Tr_mono _) hV hW _ _ _ _ ?_
    match R, hA, put with
    | [], _, put =>
      rw [if_pos (by simp)]
      exact put [] rfl rfl
    | y :: t, hA, put =>
      have el : (((y :: t).length : Nat) : Int) = (t.length : Int) + 1 := by simp
      have hl' : (t.length : Int) + 1 < 400 := by rw [← el]; omega
      rw [el, if_neg (by (clear hV hW h36 hA put hK hl'; omega)), show (t.length : Int) + 1 - 1 = t.length by (clear hV hW h36 hA put hl hK el hl'; omega), w32_id (x := (t.length : Int)) (by omega) (by (clear hV hW h36 hA put hK hl'; omega)), hA.1.1, hA.1.2]
      rw [el] at put hK
      have stop : ¬ (p < y.2 ∨ (y.2 = p ∧ x1 < y.1)) → V 79 [rr 6, ii x1, ii p, ii ((t.length : Int) + 1)] [] M := fun c => put (y :: t) rfl (by show (if _ then _ else _) = _; rw [if_neg c])
      have go : (p < y.2 ∨ (y.2 = p ∧ x1 < y.1)) → V 45 [rr 6, ii x1, ii p, ii ((t.length : Int) + 1)] [] M := fun c => by
        refine b_318_45 (Tr_mono _) hV hW _ _ _ _ ?_
        rw [show (t.length : Int) + 1 - 1 = t.length by omega, w32_id (x := (t.length : Int)) (by omega) (by omega), show (t.length : Int) + 1 + -1 = t.length by omega, w32_id (x := (t.length : Int)) (by omega) (by omega), hA.1.1, hA.1.2]
        refine ⟨by (clear hV hW h36 hA put hK hl' stop c; omega), by omega, by omega, by omega, ?_⟩
        have e235 : up_ (up_ M 235 ((t.length : Int) + 1) y.1) 236 ((t.length : Int) + 1) y.2 235 ((t.length : Int) + 1) = y.1 := by rw [up_ne (by decide), up_at]
        have e236 : up_ (up_ M 235 ((t.length : Int) + 1) y.1) 236 ((t.length : Int) + 1) y.2 236 ((t.length : Int) + 1) = y.2 := up_at
        have eo : ∀ i, i ≠ (t.length : Int) + 1 → up_ (up_ M 235 ((t.length : Int) + 1) y.1) 236 ((t.length : Int) + 1) y.2 235 i = M 235 i ∧ up_ (up_ M 235 ((t.length : Int) + 1) y.1) 236 ((t.length : Int) + 1) y.2 236 i = M 236 i := fun i hi => by
          rw [up_ne (by decide), up_of2 hi, up_of2 hi, up_ne (by decide)]; exact ⟨rfl, rfl⟩
        have ek : ∀ k : Nat, k ≠ 235 → k ≠ 236 → up_ (up_ M 235 ((t.length : Int) + 1) y.1) 236 ((t.length : Int) + 1) y.2 k = M k := fun k h1 h3 => by rw [up_ne h3, up_ne h1]
        generalize up_ (up_ M 235 ((t.length : Int) + 1) y.1) 236 ((t.length : Int) + 1) y.2 = M1 at *
        have e5 := ek 6 (by decide) (by decide)
        refine l_318 hV hW t M1 (by omega) (by rw [e5]; exact h36) (WAr_c t hA.2 (fun i i0 i1 => eo i (by omega))) (fun M' f1 f2 f3 f4 f5 => hK M' (fun k hk => ?_) (fun i hi => by rw [f2 i hi, e5]) (by rw [f3, e5]) (fun i hi => ?_) (WAr_ins f5 c ?_ ?_))
        · rw [f1 k hk, ek k (fun e => hk (by rw [e]; decide)) (fun e => hk (by rw [e]; decide))]
        · rw [(f4 i (by omega)).1, (f4 i (by omega)).2]; exact eo i (by omega)
        · rw [(f4 _ (by omega)).1]; exact e235
        · rw [(f4 _ (by omega)).2]; exact e236
      refine ⟨by omega, ?_⟩
      by_cases c1 : y.2 ≤ p
      · rw [if_pos c1]
        refine ⟨by omega, ?_⟩
        by_cases c2 : y.2 = p
        · rw [if_pos c2]
          refine ⟨by (clear hV hW h36 hA put hK hl' stop go c1 c2; omega), ?_⟩
          by_cases c3 : y.1 ≤ x1
          · rw [if_pos c3]; exact stop (by omega)
          · rw [if_neg c3]; exact go (by omega)
        · rw [if_neg c2]; exact stop (by omega)
      · rw [if_neg c1]; exact go (by omega)
termination_by R => R.length
theorem q_318 [Inhabited gh_] {M : mm_} {R : List (Int × Int)} (h36 : M 6 120 = (R.length : Int)) (hl : R.length < 400) (hA : WAr (M 235) (M 236) R)
    (hK : ∀ M', (∀ k : Nat, k ∉ [6, 235, 236] → M' k = M k) → (∀ i : Int, i ≠ 120 → M' 6 i = M 6 i) → M' 6 120 = ((insR (x1, p) R).length : Int) → WAr (M' 235) (M' 236) (insR (x1, p) R) → Kv M') : Tr_ wd0 pg0 (d + 1) 318 [.inr (.inr 6), .inl x1, .inl p] M (rv_ Kv) Qt := by
  refine t_318 fun V hV hW => b_318_0 (Tr_mono _) hV hW _ _ _ ?_
  rw [h36]
  exact l_318 hV hW R M hl (by rw [h36]; (clear h36 hA hK hV hW; omega)) hA (fun M' f1 f2 f3 _ f5 => hK M' f1 f2 (by rw [f3, h36, insR_len]; omega) f5)
end WLb
end T302_wl
section T303_wx
/-! warnings: X's walk (179) -/
noncomputable def ifP (P : Prop) (l : List (Int × Int)) : List (Int × Int) := @ite _ P (Classical.propDecidable P) [] l
noncomputable def sgW (U W : Int → Prop) (pS : Int → Int) : Nat → List (Int × Int)
  | 0 => []
  | n + 1 => sgW U W pS n ++ (ifP (U n) [(2, pS n)] ++ ifP (W n) [(3, pS n)])
noncomputable def rwW (k0 : Int) (C : Int → Prop) (p : Int → Int) : Nat → List (Int × Int)
  | 0 => []
  | n + 1 => rwW k0 C p n ++ ifP (C n) [(k0, p n)]
noncomputable def tyW (C J : Int → Int → Prop) (Md : Int → Prop) (p12 p10 : Int → Int → Int) (pT : Int → Int) (ns nl : Int → Nat) : Nat → List (Int × Int)
  | 0 => []
  | n + 1 => tyW C J Md p12 p10 pT ns nl n ++ (rwW 1 (C n) (p12 n) (ns n) ++ ifP (Md n) [(4, pT n)] ++ rwW 5 (J n) (p10 n) (nl n))
section WXa
variable {d : Nat} {Kv : mm_ → Prop} {Qt : qt_} {V : vv_} {M M0 : mm_}
theorem ifP_t [Inhabited gh_] {P : Prop} {l : List (Int × Int)} (h : P) : ifP P l = [] := by unfold ifP; exact @if_pos _ (Classical.propDecidable P) h _ _ _
theorem ifP_f [Inhabited gh_] {P : Prop} {l : List (Int × Int)} (h : ¬ P) : ifP P l = l := by unfold ifP; exact @if_neg _ (Classical.propDecidable P) h _ _ _
theorem inA_len [Inhabited gh_] : ∀ (l R : List (Int × Int)), (inA l R).length = R.length + l.length
  | [], R => rfl
  | y :: l, R => by
    show (inA l (insR y R)).length = _
    rw [inA_len l, insR_len]; simp; lia
theorem ifP_len [Inhabited gh_] {P : Prop} {x : Int × Int} : (ifP P [x]).length ≤ 1 := by
  by_cases c : P
  · rw [ifP_t c]; simp
  · rw [ifP_f c]; simp
theorem rwW_len [Inhabited gh_] {k0 : Int} {C : Int → Prop} {p : Int → Int} : ∀ n : Nat, (rwW k0 C p n).length ≤ n
  | 0 => by simp [rwW]
  | n + 1 => by
    have h := rwW_len (k0 := k0) (C := C) (p := p) n
    have := @ifP_len _ (C n) (k0, p n)
    simp only [rwW, List.length_append]; omega
theorem sgW_len [Inhabited gh_] {U W : Int → Prop} {p : Int → Int} : ∀ n : Nat, (sgW U W p n).length ≤ 2 * n
  | 0 => by simp [sgW]
  | n + 1 => by
    have h := sgW_len (U := U) (W := W) (p := p) n
    have h1 := @ifP_len _ (U n) (2, p n)
    have h2 := @ifP_len _ (W n) (3, p n)
    simp only [sgW, List.length_append]; lia
theorem tyW_len [Inhabited gh_] {C J : Int → Int → Prop} {Md : Int → Prop} {p12 p10 : Int → Int → Int} {pT : Int → Int} {ns nl : Int → Nat} : ∀ n : Nat, (∀ T : Nat, T < n → ns T ≤ 12 ∧ nl T ≤ 10) → (tyW C J Md p12 p10 pT ns nl n).length ≤ 23 * n
  | 0, _ => by simp [tyW]
  | n + 1, hb => by
    have h := tyW_len (C := C) (J := J) (Md := Md) (p12 := p12) (p10 := p10) (pT := pT) n (fun T hT => hb T (by omega))
    have h1 := rwW_len (k0 := 1) (C := C n) (p := p12 n) (ns n)
    have h2 := rwW_len (k0 := 5) (C := J n) (p := p10 n) (nl n)
    have h3 := @ifP_len _ (Md n) (4, pT n)
    have h4 := hb n (by omega)
    simp only [tyW, List.length_append]; (clear hb; lia)
/-- between two warnings: what stays, what lies there -/
def WXF (M0 M : mm_) (R : List (Int × Int)) : Prop := (∀ k : Nat, k ∉ [5, 143, 144] → M k = M0 k) ∧ (∀ i : Int, i ≠ 36 → M 5 i = M0 5 i) ∧ M 5 36 = (R.length : Int) ∧ WAr (M 143) (M 144) R
/-- one warning, if P does not hold -/
theorem x_w1 [Inhabited gh_] {R : List (Int × Int)} {P : Prop} {kd t p : Int} (h : WXF M0 M R) (h2 : M0 1 2 = 5) (hl : R.length < 200) (hx : 0 ≤ t ∧ t < 1202) (hp : M0 71 t = p) (hP : ¬ P) (hK : ∀ M', WXF M0 M' (inA (ifP P [(kd, p)]) R) → Kv M') : Tr_ wd0 pg0 (d + 1) 180 [.inr (.inr 1), .inl kd, .inl t] M (rv_ Kv) Qt := by
  obtain ⟨a1, a2, a3, a4⟩ := h
  refine x_180 (by rw [a1 1 (by decide)]; exact h2) hx a3 hl a4 (fun M' f1 f2 f3 f4 => hK M' ?_)
  rw [a1 71 (by decide), hp] at f3 f4
  rw [ifP_f hP]
  exact ⟨fun k hk => (f1 k hk).trans (a1 k hk), fun i hi => (f2 i hi).trans (a2 i hi), f3, f4⟩
end WXa
end T303_wx
section T304_wx
/-! warnings: X's walk (179), whole -/
section WXb
variable {d : Nat} {Kv : mm_ → Prop} {Qt : qt_} {V : vv_} {M M0 : mm_} {U W : Int → Prop} {C J : Int → Int → Prop} {Md : Int → Prop} {pS pT : Int → Int} {p12 p10 : Int → Int → Int} {x1 x2 : Int}
/-- the masks of the routes from and to the environment -/
def rmk (M : mm_) (o : Int) : Nat → Int
  | 0 => 0
  | n + 1 => or_ (rmk M o n) (if M 114 (2 * n + o) = -2 then M 119 n else 0)
theorem rmk_b [Inhabited gh_] {o : Int} : ∀ n : Nat, (∀ r, 0 ≤ r → r < (n : Int) → 0 ≤ M 119 r ∧ M 119 r < 1048576) → (0 ≤ rmk M o n ∧ rmk M o n < 1048576) ∧ ∀ s, 0 ≤ s → (bt_ (rmk M o n) s ↔ ∃ r, (0 ≤ r ∧ r < (n : Int)) ∧ M 114 (2 * r + o) = -2 ∧ bt_ (M 119 r) s)
  | 0, _ => ⟨⟨Int.le_refl _, by show (0 : Int) < 1048576; decide⟩, fun s _ => ⟨fun h => absurd h bt_0, fun ⟨x, hx, _⟩ => by omega⟩⟩
  | n + 1, h => by
    obtain ⟨r1, r2⟩ := rmk_b (o := o) n (fun x x0 x1 => h x x0 (by omega))
    have hn := h n (by omega) (by omega)
    have hy : 0 ≤ (if M 114 (2 * n + o) = -2 then M 119 n else 0) ∧ (if M 114 (2 * n + o) = -2 then M 119 n else 0) < ((2 ^ 20 : Nat) : Int) := by
      split
      · exact hn
      · exact ⟨Int.le_refl _, by decide⟩
    obtain ⟨o1, o2⟩ := or_b2 (m := 20) (by decide) (x := rmk M o n) r1 hy
    refine ⟨o1, fun s s0 => ?_⟩
    show bt_ (or_ (rmk M o n) _) s ↔ _
    rw [o2 s s0, r2 s s0]
    constructor
    · rintro (⟨x, hx, e⟩ | e)
      · exact ⟨x, by omega, e⟩
      · by_cases c : M 114 (2 * n + o) = -2
        · rw [if_pos c] at e; exact ⟨n, by omega, c, e⟩
        · rw [if_neg c] at e; exact absurd e bt_0
    · rintro ⟨x, hx, e1, e2⟩
      by_cases c : x = n
      · rw [c] at e1 e2; right; rw [if_pos e1]; exact e2
      · exact .inl ⟨x, by omega, e1, e2⟩
theorem l_260 [Inhabited gh_] (hV : Cl_ wd0 (Tr_ wd0 pg0 (d + 1)) V (rv_ Kv) Qt m_179) (hW : Wk_ V) {T : Int} {n : Nat} (h2 : M0 1 2 = 5) (hT : 0 ≤ T ∧ T < 6) (hn : M0 128 T = n) (hn1 : n ≤ 10) (hJ : ∀ l, 0 ≤ l → l < (n : Int) → (an_ (sr_ (M0 68 T) l) 1 = 0 ↔ J T l) ∧ (0 ≤ M0 62 (10 * T + l) ∧ M0 62 (10 * T + l) < 1202) ∧ M0 71 (M0 62 (10 * T + l)) = p10 T l) {R : List (Int × Int)} (hl : R.length + n < 200)
    (hK : ∀ M', WXF M0 M' (inA (rwW 5 (J T) (p10 T) n) R) → V 158 [rr 1, ii x1, ii x2, ii (T + 1), none] [] M') : ∀ (j k : Nat) (M : mm_), k + j = n → WXF M0 M (inA (rwW 5 (J T) (p10 T) k) R) → V 260 [rr 1, ii x1, ii x2, ii T, ii (k : Int)] [] M
  | j, k, M, hj, h => by
    have e2 : M 1 2 = 5 := by rw [h.1 1 (by decide)]; exact h2
    refine b_179_260 (Tr_mono _) hV hW _ _ _ _ _ ⟨e2, hT, ?_⟩
    rw [h.1 128 (by decide), hn, h.1 68 (by decide), h.1 62 (by decide)]
    by_cases c : (k : Int) < n
    · rw [if_pos c]
      cases j with
      | zero => omega
      | succ j =>
        obtain ⟨j1, j2, j3⟩ := hJ k (by omega) c
        have ea : inA (rwW 5 (J T) (p10 T) (k + 1)) R = inA (ifP (J T k) [(5, p10 T k)]) (inA (rwW 5 (J T) (p10 T) k) R) := by show inA (rwW 5 (J T) (p10 T) k ++ _) R = _; rw [inA_app]
        rw [w32_id (x := 10 * T) (by omega) (by (clear hV hW h2 hn hn1 hJ hl hK h e2 c hj j1 j2 j3 ea; omega)), w32_id (x := 10 * T + (k : Int)) (by omega) (by omega), w32_id (x := (k : Int) + 1) (by omega) (by (clear hV hW h2 hT hn hJ hl hK h e2 j1 j2 j3 ea; lia))]
        refine ⟨hT, ?_⟩
        by_cases cj : an_ (sr_ (M0 68 T) k) 1 = 0
        · rw [if_pos cj]
          exact l_260 hV hW h2 hT hn hn1 hJ hl hK j (k + 1) M (by omega) (by rw [ea, ifP_t (j1.1 cj)]; exact h)
        · rw [if_neg cj]
          have hlen := rwW_len (k0 := 5) (C := J T) (p := p10 T) k
          refine ⟨by (clear hV hW h2 hn hJ hl hK h e2 j1 j2 j3 ea cj hlen; lia), x_w1 (P := J T k) h h2 (by rw [inA_len]; (clear hV hW h2 hT hn hJ hK h e2 j1 j2 j3 ea cj; omega)) j2 j3 (fun e => cj (j1.2 e)) (fun M' h' => ?_)⟩
          exact l_260 hV hW h2 hT hn hn1 hJ hl hK j (k + 1) M' (by (clear hV hW h2 hT hn hn1 hJ hl hK h e2 c j1 j2 j3 ea cj hlen h'; lia)) (by rw [ea]; exact h')
    · rw [if_neg c, w32_id (x := T + 1) (by omega) (by omega)]
      have ek : k = n := by (clear hV hW h2 hT hn hn1 hJ hl hK h e2; omega)
      rw [ek] at h; exact hK M h
theorem l_172w [Inhabited gh_] (hV : Cl_ wd0 (Tr_ wd0 pg0 (d + 1)) V (rv_ Kv) Qt m_179) (hW : Wk_ V) {T : Int} {n : Nat} (h2 : M0 1 2 = 5) (hT : 0 ≤ T ∧ T < 6) (hn : M0 123 T = n) (hn1 : n ≤ 12) (hC : ∀ l, 0 ≤ l → l < (n : Int) → (an_ (sr_ (M0 67 T) l) 1 = 0 ↔ C T l) ∧ (0 ≤ M0 59 (12 * T + l) ∧ M0 59 (12 * T + l) < 1202) ∧ M0 71 (M0 59 (12 * T + l)) = p12 T l) (hM : ((M0 120 T ≠ 0 ∨ bt_ (M0 1 23) T) ↔ Md T) ∧ (0 ≤ M0 58 T ∧ M0 58 T < 1202) ∧ M0 71 (M0 58 T) = pT T ∧ 0 ≤ M0 1 23 ∧ M0 1 23 < 64) {R : List (Int × Int)} (hl : R.length + n + 1 < 200)
    (hK : ∀ M', WXF M0 M' (inA (rwW 1 (C T) (p12 T) n ++ ifP (Md T) [(4, pT T)]) R) → V 260 [rr 1, ii x1, ii x2, ii T, ii 0] [] M') : ∀ (j k : Nat) (M : mm_), k + j = n → WXF M0 M (inA (rwW 1 (C T) (p12 T) k) R) → V 172 [rr 1, ii x1, ii x2, ii T, ii (k : Int)] [] M
  | j, k, M, hj, h => by
    have e2 : M 1 2 = 5 := by rw [h.1 1 (by decide)]; exact h2
    refine b_179_172 (Tr_mono _) hV hW _ _ _ _ _ ⟨e2, hT, ?_⟩
    rw [h.1 123 (by decide), hn, h.1 67 (by decide), h.1 59 (by decide), h.1 120 (by decide), h.1 1 (by decide), h.1 58 (by decide)]
    have hlen := rwW_len (k0 := 1) (C := C T) (p := p12 T) k
    by_cases c : (k : Int) < n
    · rw [if_pos c]
      cases j with
      | zero => omega
      | succ j =>
        obtain ⟨j1, j2, j3⟩ := hC k (by omega) c
        have ea : inA (rwW 1 (C T) (p12 T) (k + 1)) R = inA (ifP (C T k) [(1, p12 T k)]) (inA (rwW 1 (C T) (p12 T) k) R) := by show inA (rwW 1 (C T) (p12 T) k ++ _) R = _; rw [inA_app]
        rw [w32_id (x := 12 * T) (by omega) (by (clear hV hW h2 hn hn1 hC hM hl hK h e2 hlen c hj j1 j2 j3 ea; omega)), w32_id (x := 12 * T + (k : Int)) (by omega) (by (clear hV hW h2 hn hC hM hl hK h e2 hlen j1 j2 j3 ea; omega)), w32_id (x := (k : Int) + 1) (by (clear hV hW h2 hT hn hn1 hC hM hl hK h e2 hlen c hj j1 j2 j3 ea; lia)) (by (clear hV hW h2 hT hn hC hM hl hK h e2 hlen j1 j2 j3 ea; lia))]
        refine ⟨hT, ?_⟩
        by_cases cj : an_ (sr_ (M0 67 T) k) 1 = 0
        · rw [if_pos cj]
          exact l_172w hV hW h2 hT hn hn1 hC hM hl hK j (k + 1) M (by (clear hV hW h2 hT hn hn1 hC hM hl hK h e2 hlen c j1 j2 j3 ea cj; lia)) (by rw [ea, ifP_t (j1.1 cj)]; exact h)
        · rw [if_neg cj]
          refine ⟨by (clear hV hW h2 hn hC hM hl hK h e2 hlen j1 j2 j3 ea cj; lia), x_w1 (P := C T k) h h2 (by rw [inA_len]; omega) j2 j3 (fun e => cj (j1.2 e)) (fun M' h' => ?_)⟩
          exact l_172w hV hW h2 hT hn hn1 hC hM hl hK j (k + 1) M' (by omega) (by rw [ea]; exact h')
    · rw [if_neg c]
      have ek : k = n := by (clear hV hW h2 hT hn hn1 hC hM hl hK h e2 hlen; omega)
      rw [ek] at h hlen
      obtain ⟨m1, m2, m3, m4, m5⟩ := hM
      refine ⟨h2, hT, ?_⟩
      by_cases c1 : M0 120 T = 0
      · rw [if_pos c1]
        have an := an_sr (c := M0 1 23) (s := T) m4 (by (clear hV hW h2 hT hn hn1 hC hl hK hj h e2 hlen c ek m1 m2 m3 c1; omega)) hT.1 (by omega)
        by_cases c2 : an_ (sr_ (M0 1 23) T) 1 = 0
        · rw [if_pos c2]
          have nm : ¬ Md T := fun e => by
            rcases m1.2 e with e | e
            · exact e c1
            · exact (an.1.1 c2) e
          refine ⟨hT, x_w1 (P := Md T) h h2 (by rw [inA_len]; (clear hV hW h2 hT hn hn1 hC hK h e2 ek m1 m2 m3 m4 m5 c1 an c2 nm; lia)) m2 m3 nm (fun M' h' => hK M' ?_)⟩
          rw [inA_app]; exact h'
        · rw [if_neg c2]
          have nm : Md T := m1.1 (.inr (Classical.byContradiction fun e => c2 (an.1.2 e)))
          refine hK M ?_
          rw [inA_app, ifP_t nm]; exact h
      · rw [if_neg c1]
        refine hK M ?_
        rw [inA_app, ifP_t (m1.1 (.inl c1))]; exact h
theorem l_158w [Inhabited gh_] (hV : Cl_ wd0 (Tr_ wd0 pg0 (d + 1)) V (rv_ Kv) Qt m_179) (hW : Wk_ V) {n : Nat} {ns nl : Int → Nat} (h2 : M0 1 2 = 5) (hn : M0 5 2 = n) (hn1 : n ≤ 6) (hnl : ∀ T, 0 ≤ T → T < (n : Int) → (M0 123 T = ns T ∧ ns T ≤ 12) ∧ (M0 128 T = nl T ∧ nl T ≤ 10)) (hC : ∀ T l, 0 ≤ T → T < (n : Int) → 0 ≤ l → l < (ns T : Int) → (an_ (sr_ (M0 67 T) l) 1 = 0 ↔ C T l) ∧ (0 ≤ M0 59 (12 * T + l) ∧ M0 59 (12 * T + l) < 1202) ∧ M0 71 (M0 59 (12 * T + l)) = p12 T l)
    (hM : ∀ T, 0 ≤ T → T < (n : Int) → ((M0 120 T ≠ 0 ∨ bt_ (M0 1 23) T) ↔ Md T) ∧ (0 ≤ M0 58 T ∧ M0 58 T < 1202) ∧ M0 71 (M0 58 T) = pT T ∧ 0 ≤ M0 1 23 ∧ M0 1 23 < 64) (hJ : ∀ T l, 0 ≤ T → T < (n : Int) → 0 ≤ l → l < (nl T : Int) → (an_ (sr_ (M0 68 T) l) 1 = 0 ↔ J T l) ∧ (0 ≤ M0 62 (10 * T + l) ∧ M0 62 (10 * T + l) < 1202) ∧ M0 71 (M0 62 (10 * T + l)) = p10 T l) {R : List (Int × Int)} (hl : R.length ≤ 40)
    (hK : ∀ M', WXF M0 M' (inA (tyW C J Md p12 p10 pT ns nl n) R) → Kv M') : ∀ (j k : Nat) (M : mm_), k + j = n → WXF M0 M (inA (tyW C J Md p12 p10 pT ns nl k) R) → V 158 [rr 1, ii x1, ii x2, ii (k : Int), none] [] M
  | j, k, M, hj, h => by
    have e2 : M 1 2 = 5 := by rw [h.1 1 (by decide)]; exact h2
    refine b_179_158 (Tr_mono _) hV hW _ _ _ _ ⟨e2, ?_⟩
    rw [h.2.1 2 (by decide), hn]
    by_cases c : (k : Int) < n
    · rw [if_pos c]
      cases j with
      | zero => (clear hV hW h2 hn hn1 hnl hC hM hJ hl hK h e2; omega)
      | succ j =>
        have hlen := tyW_len (C := C) (J := J) (Md := Md) (p12 := p12) (p10 := p10) (pT := pT) (ns := ns) (nl := nl) k (fun T hT => ⟨(hnl T (by (clear hV hW h2 hn hn1 hnl hC hM hJ hl hK h e2 c hj hT; lia)) (by (clear hV hW h2 hn hnl hC hM hJ hl hK h e2; lia))).1.2, (hnl T (by omega) (by omega)).2.2⟩)
        obtain ⟨⟨s1, s2⟩, l1, l2⟩ := hnl k (by (clear hV hW h2 hn hn1 hnl hC hM hJ hl hK h e2 c hj hlen; lia)) c
        have h1 := rwW_len (k0 := 1) (C := C k) (p := p12 k) (ns k)
        have h3 := @ifP_len _ (Md k) (4, pT k)
        refine l_172w (C := C) (Md := Md) (p12 := p12) (pT := pT) (R := inA (tyW C J Md p12 p10 pT ns nl k) R) hV hW h2 (by (clear hV hW h2 hn hnl hC hM hJ hl hK h e2 hlen s1 s2 l1 l2 h1 h3; lia)) s1 s2 (fun l l0 l1 => hC k l (by omega) c l0 l1) (hM k (by omega) c) (by rw [inA_len]; (clear hV hW h2 hn hnl hC hM hJ hK h e2 s1 l1 l2 h1 h3; omega)) (fun M' h' => ?_) (ns k) 0 M (by omega) h
        refine l_260 (J := J) (p10 := p10) (R := inA (rwW 1 (C k) (p12 k) (ns k) ++ ifP (Md k) [(4, pT k)]) (inA (tyW C J Md p12 p10 pT ns nl k) R)) hV hW h2 (by omega) l1 l2 (fun l l0 l1 => hJ k l (by omega) c l0 l1) (by rw [inA_len, inA_len, List.length_append]; omega) (fun M' h' => ?_) (nl k) 0 M' (by (clear hV hW h2 hn hn1 hnl hC hM hJ hl hK h e2 c hj hlen s1 s2 l1 l2 h1 h3 h'; lia)) h'
        refine l_158w hV hW h2 hn hn1 hnl hC hM hJ hl hK j (k + 1) M' (by omega) ?_
        have ea : inA (tyW C J Md p12 p10 pT ns nl (k + 1)) R = inA (rwW 5 (J k) (p10 k) (nl k)) (inA (rwW 1 (C k) (p12 k) (ns k) ++ ifP (Md k) [(4, pT k)]) (inA (tyW C J Md p12 p10 pT ns nl k) R)) := by
          show inA (tyW C J Md p12 p10 pT ns nl k ++ (rwW 1 (C k) (p12 k) (ns k) ++ ifP (Md k) [(4, pT k)] ++ rwW 5 (J k) (p10 k) (nl k))) R = _
          rw [inA_app, inA_app]
        rw [ea]; exact h'
    · rw [if_neg c]
      have ek : k = n := by (clear hV hW h2 hn hn1 hnl hC hM hJ hl hK h e2; omega)
      rw [ek] at h; exact rv_i (hK M h)
end WXb
end T304_wx
section T305_wx
/-! warnings: X's walk (179), its signals and routes -/
section WXc
variable {d : Nat} {Kv : mm_ → Prop} {Qt : qt_} {V : vv_} {M M0 : mm_} {U W : Int → Prop} {C J : Int → Int → Prop} {Md : Int → Prop} {pS pT : Int → Int} {p12 p10 : Int → Int → Int} {x1 x2 : Int}
theorem l_91w [Inhabited gh_] (hV : Cl_ wd0 (Tr_ wd0 pg0 (d + 1)) V (rv_ Kv) Qt m_179) (hW : Wk_ V) {n : Nat} (h2 : M0 1 2 = 5) (hn : M0 5 0 = n) (hn1 : n ≤ 20) (hU : ∀ s, 0 ≤ s → s < (n : Int) → (an_ (sr_ (or_ (M0 1 21) x1) s) 1 = 0 ↔ ¬ U s) ∧ (an_ (sr_ (or_ (M0 1 22) x2) s) 1 = 0 ↔ ¬ W s) ∧ (0 ≤ M0 56 s ∧ M0 56 s < 1202) ∧ M0 71 (M0 56 s) = pS s)
    (hK : ∀ M', WXF M0 M' (inA (sgW U W pS n) []) → V 158 [rr 1, ii x1, ii x2, ii 0, none] [] M') : ∀ (j k : Nat) (M : mm_), k + j = n → WXF M0 M (inA (sgW U W pS k) []) → V 91 [rr 1, ii x1, ii x2, ii (k : Int), none] [] M
  | j, k, M, hj, h => by
    have e2 : M 1 2 = 5 := by rw [h.1 1 (by decide)]; exact h2
    refine b_179_91 (Tr_mono _) hV hW _ _ _ _ ⟨e2, ?_⟩
    rw [h.2.1 0 (by decide), hn, h.1 1 (by decide), h.1 56 (by decide)]
    have hlen := sgW_len (U := U) (W := W) (p := pS) k
    by_cases c : (k : Int) < n
    · rw [if_pos c]
      cases j with
      | zero => omega
      | succ j =>
        obtain ⟨u1, u2, u3, u4⟩ := hU k (by omega) c
        have ea : inA (sgW U W pS (k + 1)) [] = inA (ifP (W k) [(3, pS k)]) (inA (ifP (U k) [(2, pS k)]) (inA (sgW U W pS k) [])) := by
          show inA (sgW U W pS k ++ (ifP (U k) [(2, pS k)] ++ ifP (W k) [(3, pS k)])) [] = _
          rw [inA_app, inA_app]
        have hu := @ifP_len _ (U k) (2, pS k)
        have second : ∀ M1, WXF M0 M1 (inA (ifP (U k) [(2, pS k)]) (inA (sgW U W pS k) [])) → V 126 [rr 1, ii x1, ii x2, ii (k : Int), none] [] M1 := fun M1 h1 => by
          refine b_179_126 (Tr_mono _) hV hW _ _ _ _ ?_
          rw [h1.1 1 (by decide), h1.1 56 (by decide), w32_id (x := (k : Int) + 1) (by (clear hV hW h2 hn hn1 hU hK h e2 hlen c hj u1 u2 u3 u4 ea hu h1; omega)) (by omega)]
          by_cases c2 : an_ (sr_ (or_ (M0 1 22) x2) k) 1 = 0
          · rw [if_pos c2]
            refine ⟨by (clear hV hW h2 hn hU hK h e2 hlen u1 u2 u3 u4 ea hu h1 c2; omega), x_w1 (P := W k) h1 h2 (by rw [inA_len, inA_len]; simp; (clear hV hW h2 hn hU hK h e2 u1 u2 u3 u4 ea h1 c2; lia)) u3 u4 (u2.1 c2) (fun M' h' => ?_)⟩
            exact l_91w hV hW h2 hn hn1 hU hK j (k + 1) M' (by omega) (by rw [ea]; exact h')
          · rw [if_neg c2]
            have w : W k := Classical.byContradiction fun e => c2 (u2.2 e)
            exact l_91w hV hW h2 hn hn1 hU hK j (k + 1) M1 (by (clear hV hW h2 hn hn1 hU hK h e2 hlen c u1 u2 u3 u4 ea hu h1 c2 w; lia)) (by rw [ea, ifP_t w]; exact h1)
        by_cases c1 : an_ (sr_ (or_ (M0 1 21) x1) k) 1 = 0
        · rw [if_pos c1]
          exact ⟨by omega, x_w1 (P := U k) h h2 (by rw [inA_len]; simp; (clear hV hW h2 hn hU hK h e2 u1 u2 u3 u4 ea hu second c1; lia)) u3 u4 (u1.1 c1) (fun M' h' => second M' h')⟩
        · rw [if_neg c1]
          have w : U k := Classical.byContradiction fun e => c1 (u1.2 e)
          exact second M (by rw [ifP_t w]; exact h)
    · rw [if_neg c]
      have ek : k = n := by omega
      rw [ek] at h; exact hK M h
theorem l_6w [Inhabited gh_] (hV : Cl_ wd0 (Tr_ wd0 pg0 (d + 1)) V (rv_ Kv) Qt m_179) (hW : Wk_ V) {n : Nat} (h2 : M 1 2 = 5) (hn : M 5 1 = n) (hn1 : n ≤ 10) (hK : V 91 [rr 1, ii (rmk M 0 n), ii (rmk M 1 n), ii 0, none] [] M) : ∀ (j k : Nat), k + j = n → V 6 [rr 1, ii (rmk M 0 k), ii (rmk M 1 k), ii (k : Int), none] [] M
  | j, k, hj => by
    refine b_179_6 (Tr_mono _) hV hW _ _ _ _ ⟨h2, ?_⟩
    rw [hn]
    by_cases c : (k : Int) < n
    · rw [if_pos c, w32_id (x := 2 * (k : Int)) (by omega) (by omega)]
      cases j with
      | zero => omega
      | succ j =>
        have ih := l_6w hV hW h2 hn hn1 hK j (k + 1) (by omega)
        have e0 : rmk M 0 (k + 1) = or_ (rmk M 0 k) (if M 114 (2 * k) = -2 then M 119 k else 0) := by
          show or_ (rmk M 0 k) (if M 114 (2 * (k : Int) + 0) = -2 then M 119 k else 0) = _
          rw [show 2 * (k : Int) + 0 = 2 * k by (clear hV hW h2 hn hn1 hK c hj ih; lia)]
        have e1 : rmk M 1 (k + 1) = or_ (rmk M 1 k) (if M 114 (2 * k + 1) = -2 then M 119 k else 0) := rfl
        have b2 : ∀ v, v = rmk M 0 (k + 1) → V 49 [rr 1, ii v, ii (rmk M 1 k), ii (k : Int), none] [] M := fun v hv => by
          refine b_179_49 (Tr_mono _) hV hW _ _ _ _ ⟨h2, ?_⟩
          rw [w32_id (x := 2 * (k : Int)) (by (clear hV hW h2 hn hn1 hK c hj ih e0 e1 hv; lia)) (by omega), w32_id (x := 2 * (k : Int) + 1) (by (clear hV hW h2 hn hn1 hK c hj ih e0 e1 hv; lia)) (by omega), w32_id (x := (k : Int) + 1) (by omega) (by omega)]
          refine ⟨by (clear hV hW h2 hn hK ih e0 e1 hv; lia), ?_⟩
          by_cases c2 : M 114 (2 * k + 1) = -2
          · rw [if_pos c2]
            rw [if_pos c2] at e1
            refine ⟨h2, by omega, ?_⟩
            rw [← e1, hv]; exact ih
          · rw [if_neg c2]
            rw [if_neg c2] at e1
            rw [← e1, hv]; exact ih
        refine ⟨h2, by (clear hV hW h2 hn hK ih e0 e1 b2; lia), ?_⟩
        by_cases c1 : M 114 (2 * k) = -2
        · rw [if_pos c1]
          rw [if_pos c1] at e0
          exact ⟨h2, by omega, b2 _ e0.symm⟩
        · rw [if_neg c1]
          rw [if_neg c1] at e0
          exact b2 _ e0.symm
    · rw [if_neg c]
      have ek : k = n := by omega
      rw [ek]; exact hK
theorem x_179 [Inhabited gh_] {n0 n1 n2 : Nat} {ns nl : Int → Nat} (h2 : M 1 2 = 5) (h50 : M 5 0 = n0 ∧ n0 ≤ 20) (h51 : M 5 1 = n1 ∧ n1 ≤ 10) (h52 : M 5 2 = n2 ∧ n2 ≤ 6) (h36 : M 5 36 = 0) (h119 : ∀ r, 0 ≤ r → r < (n1 : Int) → 0 ≤ M 119 r ∧ M 119 r < 1048576) (h21 : (0 ≤ M 1 21 ∧ M 1 21 < 1048576) ∧ 0 ≤ M 1 22 ∧ M 1 22 < 1048576)
    (hU : ∀ s, 0 ≤ s → s < (n0 : Int) → ((bt_ (M 1 21) s ∨ ∃ r, (0 ≤ r ∧ r < (n1 : Int)) ∧ M 114 (2 * r) = -2 ∧ bt_ (M 119 r) s) ↔ U s) ∧ ((bt_ (M 1 22) s ∨ ∃ r, (0 ≤ r ∧ r < (n1 : Int)) ∧ M 114 (2 * r + 1) = -2 ∧ bt_ (M 119 r) s) ↔ W s) ∧ (0 ≤ M 56 s ∧ M 56 s < 1202) ∧ M 71 (M 56 s) = pS s)
    (hnl : ∀ T, 0 ≤ T → T < (n2 : Int) → (M 123 T = ns T ∧ ns T ≤ 12) ∧ (M 128 T = nl T ∧ nl T ≤ 10)) (hC : ∀ T l, 0 ≤ T → T < (n2 : Int) → 0 ≤ l → l < (ns T : Int) → (an_ (sr_ (M 67 T) l) 1 = 0 ↔ C T l) ∧ (0 ≤ M 59 (12 * T + l) ∧ M 59 (12 * T + l) < 1202) ∧ M 71 (M 59 (12 * T + l)) = p12 T l)
    (hM : ∀ T, 0 ≤ T → T < (n2 : Int) → ((M 120 T ≠ 0 ∨ bt_ (M 1 23) T) ↔ Md T) ∧ (0 ≤ M 58 T ∧ M 58 T < 1202) ∧ M 71 (M 58 T) = pT T ∧ 0 ≤ M 1 23 ∧ M 1 23 < 64) (hJ : ∀ T l, 0 ≤ T → T < (n2 : Int) → 0 ≤ l → l < (nl T : Int) → (an_ (sr_ (M 68 T) l) 1 = 0 ↔ J T l) ∧ (0 ≤ M 62 (10 * T + l) ∧ M 62 (10 * T + l) < 1202) ∧ M 71 (M 62 (10 * T + l)) = p10 T l)
    (hK : ∀ M', WXF M M' (inA (tyW C J Md p12 p10 pT ns nl n2) (inA (sgW U W pS n0) [])) → Kv M') : Tr_ wd0 pg0 (d + 2) 179 [.inr (.inr 1)] M (rv_ Kv) Qt := by
  obtain ⟨a1, a2⟩ := rmk_b (M := M) (o := 0) n1 h119
  obtain ⟨b1, b2⟩ := rmk_b (M := M) (o := 1) n1 h119
  refine t_179 fun V hV hW => b_179_0 (Tr_mono _) hV hW _ (l_6w hV hW h2 h51.1 h51.2 ?_ n1 0 (by (clear h2 h50 h51 h52 h36 h119 h21 hU hnl hC hM hJ hK a1 a2 b1 b2 hV hW; lia)))
  have W0 : WXF M M (inA (sgW U W pS 0) []) := ⟨fun _ _ => rfl, fun _ _ => rfl, h36, trivial⟩
  refine l_91w (U := U) (W := W) (pS := pS) hV hW h2 h50.1 h50.2 (fun s s0 s1 => ?_) (fun M' h' => ?_) n0 0 M (by (clear h2 h50 h51 h52 h36 h119 h21 hU hnl hC hM hJ hK a1 a2 b1 b2 hV hW W0; lia)) W0
  · obtain ⟨u1, u2, u3, u4⟩ := hU s s0 s1
    obtain ⟨o1, o2⟩ := or_b2 (m := 20) (by decide) (x := M 1 21) (y := rmk M 0 n1) h21.1 a1
    obtain ⟨p1, p2⟩ := or_b2 (m := 20) (by decide) (x := M 1 22) (y := rmk M 1 n1) h21.2 b1
    have o1' : 0 ≤ or_ (M 1 21) (rmk M 0 n1) ∧ or_ (M 1 21) (rmk M 0 n1) < 1048576 := o1
    have p1' : 0 ≤ or_ (M 1 22) (rmk M 1 n1) ∧ or_ (M 1 22) (rmk M 1 n1) < 1048576 := p1
    refine ⟨?_, ?_, u3, u4⟩
    · rw [(an_sr o1'.1 (by omega) s0 (by (clear h2 h51 h52 h36 h119 h21 hU hnl hC hM hJ hK a1 a2 b1 b2 hV hW W0 s0 u1 u2 u3 u4 o1 o2 p1 p2 o1' p1'; omega))).1, o2 s s0, a2 s s0, ← u1]
      constructor
      · intro h e; apply h; rcases e with e | ⟨r, hr, e1, e2⟩
        · exact .inl e
        · exact .inr ⟨r, hr, by rw [show 2 * r + 0 = 2 * r by (clear h2 h50 h51 h52 h36 h119 h21 hU hnl hC hM hJ hK a1 a2 b1 b2 hV hW W0 s0 s1 u1 u2 u3 u4 o1 o2 p1 p2 o1' p1' h hr e1 e2; lia)]; exact e1, e2⟩
      · intro h e; apply h; rcases e with e | ⟨r, hr, e1, e2⟩
        · exact .inl e
        · exact .inr ⟨r, hr, by rw [show 2 * r + 0 = 2 * r by omega] at e1; exact e1, e2⟩
    · rw [(an_sr p1'.1 (by (clear h2 h50 h51 h52 h36 h119 h21 hU hnl hC hM hJ hK a1 a2 b1 b2 hV hW W0 s0 s1 u1 u2 u3 u4 o1 o2 p2 o1' p1'; omega)) s0 (by omega)).1, p2 s s0, b2 s s0, ← u2]
  · have hlen := sgW_len (U := U) (W := W) (p := pS) n0
    exact l_158w (C := C) (J := J) (Md := Md) (p12 := p12) (p10 := p10) (pT := pT) (ns := ns) (nl := nl) hV hW h2 h52.1 h52.2 hnl hC hM hJ (by rw [inA_len]; simp; (clear h2 h51 h52 h36 h119 h21 hU hnl hC hM hJ hK a1 a2 b1 b2 hV hW W0 h'; lia)) hK n2 0 M' (by omega) h'
end WXc
end T305_wx
section T306_qc
/-! warnings: Q's come (317): bits, what a state come to means -/
def InT (N : mm_) (T me : Int) : Prop := (0 ≤ me ∧ me < N 6 76) ∧ N 211 me = T
def CM2 (N : mm_) (T : Int) (P C : Int → Prop) : Prop := (∀ me, InT N T me → N 215 me ≠ 0 → P me) ∧ (∀ me l, InT N T me → P me → 0 ≤ l → l < N 175 T → bt_ (N 214 me) l → P (N 189 (10 * T + l)))
  ∧ (∀ me s, InT N T me → P me → 0 ≤ s → bt_ (N 213 me) s → C s) ∧ (∀ me s, InT N T me → N 215 me = 0 → 0 ≤ s → bt_ (N 212 me) s → C s → P me)
def CMT (N : mm_) (T s : Int) : Prop := ∀ P C, CM2 N T P C → C s
section QCa
variable {N N1 : mm_} {T x y s q0 q1 : Int}
theorem an_ne0 [Inhabited gh_] (hx : 0 ≤ x ∧ x < 2147483648) (hy : 0 ≤ y ∧ y < 2147483648) : an_ x y ≠ 0 ↔ ∃ s, 0 ≤ s ∧ bt_ x s ∧ bt_ y s := by
  obtain ⟨a1, a2⟩ := an_bt hx hy
  rw [bt_ne a1.1]
  constructor
  · rintro ⟨l, l0, h⟩; exact ⟨l, l0, (a2 l l0).1 h⟩
  · rintro ⟨l, l0, h⟩; exact ⟨l, l0, (a2 l l0).2 h⟩
theorem an_nt [Inhabited gh_] (hx : 0 ≤ x ∧ x < 2147483648) (hy : 0 ≤ y ∧ y < 2147483648) : an_ x (xo_ y (-1)) = 0 ↔ ∀ s, 0 ≤ s → bt_ x s → bt_ y s := by
  obtain ⟨a, ha⟩ := Int.eq_ofNat_of_zero_le hx.1
  obtain ⟨b, hb⟩ := Int.eq_ofNat_of_zero_le hy.1
  subst ha; subst hb
  have e1 : an_ (a : Int) (xo_ (b : Int) (-1)) = (BitVec.ofNat 32 a &&& (BitVec.ofNat 32 b ^^^ BitVec.allOnes 32)).toInt := by
    unfold an_ xo_
    rw [Int32.ofInt_toInt]
    show (Int32.toBitVec (_ &&& _)).toInt = _
    rw [Int32.toBitVec_and, Int32.toBitVec_xor, bv_n, bv_n]
    have : (Int32.ofInt (-1)).toBitVec = BitVec.allOnes 32 := by decide
    rw [this]
  have bit : ∀ i : Nat, (BitVec.ofNat 32 a &&& (BitVec.ofNat 32 b ^^^ BitVec.allOnes 32)).getLsbD i = (decide (i < 32) && a.testBit i && !(b.testBit i)) := fun i => by
    rw [BitVec.getLsbD_and, BitVec.getLsbD_xor, BitVec.getLsbD_allOnes, BitVec.getLsbD_ofNat, BitVec.getLsbD_ofNat]
    by_cases c : i < 32
    · simp [c]
    · simp [c]
  rw [e1]
  constructor
  · intro h s s0 hs
    have hz : (BitVec.ofNat 32 a &&& (BitVec.ofNat 32 b ^^^ BitVec.allOnes 32)) = 0#32 := BitVec.eq_of_toInt_eq (by rw [h]; rfl)
    have := bit s.toNat
    rw [hz] at this
    have hs' : a.testBit s.toNat = true := hs
    have lt : s.toNat < 32 := by
      by_cases c : s.toNat < 32
      · exact c
      · rw [Nat.testBit_lt_two_pow (Nat.lt_of_lt_of_le (by (clear hy e1 bit h s0 hs hz this hs' c; omega) : a < 2 ^ 31) (Nat.pow_le_pow_right (by decide) (by (clear hx hy e1 bit h s0 hs hz this hs'; omega))))] at hs'; cases hs'
    rw [hs'] at this
    simp [lt] at this
    exact this
  · intro h
    have hz : (BitVec.ofNat 32 a &&& (BitVec.ofNat 32 b ^^^ BitVec.allOnes 32)) = 0#32 := by
      apply BitVec.eq_of_getLsbD_eq
      intro i hi
      rw [bit i]
      by_cases c : a.testBit i = true
      · have := h i (by omega) (show bt_ (a : Int) i by unfold bt_; rw [Int.toNat_natCast, Int.toNat_natCast]; exact c)
        unfold bt_ at this
        rw [Int.toNat_natCast, Int.toNat_natCast] at this
        simp [this]
      · simp [c]
    rw [hz]; rfl
/-- rows of a type as an interval -/
theorem CMT_i [Inhabited gh_] (h : ∀ me, 0 ≤ me → me < N 6 76 → (N 211 me = T ↔ q0 ≤ me ∧ me < q1)) (h0 : 0 ≤ q0 ∧ q1 ≤ N 6 76) : CMT N T s ↔ CMS N T q0 q1 s := by
  have i1 : ∀ me, InT N T me ↔ q0 ≤ me ∧ me < q1 := fun me => by
    unfold InT
    constructor
    · rintro ⟨a, b⟩; exact (h me a.1 a.2).1 b
    · intro a; exact ⟨by omega, (h me (by omega) (by omega)).2 a⟩
  have e : ∀ P C, CM2 N T P C ↔ CMC N T q0 q1 P C := fun P C => by
    unfold CM2 CMC
    constructor
    · rintro ⟨a1, a2, a3, a4⟩
      exact ⟨fun me m0 m1 => a1 me ((i1 me).2 ⟨m0, m1⟩), fun me l m0 m1 => a2 me l ((i1 me).2 ⟨m0, m1⟩), fun me s m0 m1 => a3 me s ((i1 me).2 ⟨m0, m1⟩), fun me s m0 m1 => a4 me s ((i1 me).2 ⟨m0, m1⟩)⟩
    · rintro ⟨a1, a2, a3, a4⟩
      exact ⟨fun me hm => a1 me ((i1 me).1 hm).1 ((i1 me).1 hm).2, fun me l hm => a2 me l ((i1 me).1 hm).1 ((i1 me).1 hm).2, fun me s hm => a3 me s ((i1 me).1 hm).1 ((i1 me).1 hm).2, fun me s hm => a4 me s ((i1 me).1 hm).1 ((i1 me).1 hm).2⟩
  unfold CMT CMS
  exact ⟨fun h P C hc => h P C ((e P C).2 hc), fun h P C hc => h P C ((e P C).1 hc)⟩
end QCa
end T306_qc
section T307_qc
/-! warnings: Q's come (317), walked -/
def cz (N : mm_) : Nat → Int
  | 0 => 0
  | n + 1 => cz N n + (1 - N 238 n)
/-- what Q's rows of transes are, for a type -/
def BTT (N : mm_) (T : Int) (n : Nat) : Prop := (N 6 76 = n ∧ n ≤ 1300 ∧ 0 ≤ T ∧ T < 6) ∧ (∀ k, InT N T k → (0 ≤ N 213 k ∧ N 213 k < 4096) ∧ (0 ≤ N 214 k ∧ N 214 k < 1024) ∧ (N 215 k = 0 → 0 ≤ N 212 k ∧ N 212 k < 4096)) ∧ (0 ≤ N 175 T ∧ N 175 T ≤ 10) ∧ ∀ l, 0 ≤ l → l < N 175 T → InT N T (N 189 (10 * T + l))
def RCT (N0 N : mm_) (T : Int) (n : Nat) : Prop := (∀ k : Nat, k ≠ 237 → k ≠ 238 → N k = N0 k) ∧ (∀ i, i ≠ T → N 237 i = N0 237 i) ∧ (0 ≤ N 237 T ∧ N 237 T < 4096) ∧ (∀ k, 0 ≤ k → k < (n : Int) → (N 238 k = 0 ∨ N 238 k = 1) ∧ (N 238 k = 1 → N0 211 k = T)) ∧ (∀ P C, CM2 N0 T P C → (∀ k, 0 ≤ k → k < (n : Int) → N 238 k = 1 → P k) ∧ ∀ s, 0 ≤ s → bt_ (N 237 T) s → C s) ∧ ∀ k, InT N0 T k → N0 215 k ≠ 0 → N 238 k = 1
def msT (N : mm_) (T : Int) (n : Nat) : Int := cz N n + (4096 - N 237 T)
def CLT (N0 N : mm_) (T k : Int) : Prop := (N 238 k = 1 → (∀ s, 0 ≤ s → bt_ (N0 213 k) s → bt_ (N 237 T) s) ∧ ∀ l, 0 ≤ l → l < N0 175 T → bt_ (N0 214 k) l → N 238 (N0 189 (10 * T + l)) = 1) ∧ (N0 215 k = 0 → ∀ s, 0 ≤ s → bt_ (N0 212 k) s → bt_ (N 237 T) s → N 238 k = 1)
/-- the state of a pass: nothing has changed, or less is left -/
def PAS2 (N0 Ns N : mm_) (T : Int) (n : Nat) (x2 : Int) : Prop := RCT N0 N T n ∧ ((x2 = 0 ∧ N = Ns) ∨ (x2 = 1 ∧ msT N T n < msT Ns T n))
section QCb
variable {d : Nat} {Kv : mm_ → Prop} {Qt : qt_} {V : vv_} {N N0 Ns : mm_} {T k x2 : Int} {n : Nat}
theorem cz_u [Inhabited gh_] {v : Int} : ∀ n : Nat, 0 ≤ k → k < (n : Int) → cz (up_ N 238 k v) n = cz N n + (N 238 k - v)
  | 0, h0, h1 => by omega
  | n + 1, h0, h1 => by
    show cz (up_ N 238 k v) n + (1 - up_ N 238 k v 238 n) = cz N n + (1 - N 238 n) + (N 238 k - v)
    by_cases c : k = n
    · have o : ∀ m : Nat, m ≤ n → cz (up_ N 238 k v) m = cz N m := fun m => by
        induction m with
        | zero => intro _; rfl
        | succ m ih =>
          intro hm
          show cz (up_ N 238 k v) m + (1 - up_ N 238 k v 238 m) = cz N m + (1 - N 238 m)
          rw [ih (by omega), up_of2 (by omega)]
      rw [o n (Nat.le_refl _), c, up_at]; omega
    · rw [cz_u n h0 (by omega), up_of2 (by omega)]; (clear h0 h1 c; lia)
theorem cz_o [Inhabited gh_] {i v : Int} : ∀ n : Nat, cz (up_ N 237 i v) n = cz N n
  | 0 => rfl
  | n + 1 => by
    show cz (up_ N 237 i v) n + (1 - up_ N 237 i v 238 n) = cz N n + (1 - N 238 n)
    rw [cz_o n, up_ne (by decide)]
theorem cz_0 [Inhabited gh_] : ∀ n : Nat, (∀ k, 0 ≤ k → k < (n : Int) → N 238 k = 0 ∨ N 238 k = 1) → 0 ≤ cz N n
  | 0, _ => Int.le_refl _
  | n + 1, h => by
    have := cz_0 n (fun k k0 k1 => h k k0 (by omega))
    have := h n (by omega) (by omega)
    show 0 ≤ cz N n + (1 - N 238 n)
    omega
theorem or_le [Inhabited gh_] {x y : Int} (hx : 0 ≤ x ∧ x < 4096) (hy : 0 ≤ y ∧ y < 4096) : x ≤ or_ x y := by
  obtain ⟨a, ha⟩ := Int.eq_ofNat_of_zero_le hx.1
  obtain ⟨b, hb⟩ := Int.eq_ofNat_of_zero_le hy.1
  subst ha; subst hb
  rw [or_nat (by omega) (by omega)]
  exact Int.ofNat_le.2 Nat.left_le_or
/-- a trans told -/
theorem PAS_t [Inhabited gh_] (b : BTT N0 T n) (h : PAS2 N0 Ns N T n x2) (hk : InT N0 T k) (h0 : N 238 k = 0) (hP : ∀ P C, CM2 N0 T P C → P k) : PAS2 N0 Ns (up_ N 238 k 1) T n 1 := by
  obtain ⟨⟨r1, r2, r3, r4, r5, r6⟩, hm⟩ := h
  obtain ⟨hk1, hk2⟩ := hk
  rw [b.1.1] at hk1
  refine ⟨⟨fun q h1 h2 => by rw [up_ne h2]; exact r1 q h1 h2, fun i hi => by rw [up_ne (by decide)]; exact r2 i hi, by rw [up_ne (by decide)]; exact r3, fun q q0 q1 => ?_, fun P C hc => ⟨fun q q0 q1 hq => ?_, fun s s0 => by rw [up_ne (by decide)]; exact (r5 P C hc).2 s s0⟩, fun q hq hq2 => ?_⟩, .inr ⟨rfl, ?_⟩⟩
  · by_cases c : q = k
    · rw [c, up_at]; exact ⟨.inr rfl, fun _ => hk2⟩
    · rw [up_of2 c]; exact r4 q q0 q1
  · by_cases c : q = k
    · rw [c]; exact hP P C hc
    · rw [up_of2 c] at hq; exact (r5 P C hc).1 q q0 q1 hq
  · by_cases c : q = k
    · rw [c, up_at]
    · rw [up_of2 c]; exact r6 q hq hq2
  · have : msT (up_ N 238 k 1) T n = msT N T n - 1 := by
      unfold msT
      rw [cz_u n hk1.1 hk1.2, up_ne (by decide), h0]; omega
    rcases hm with ⟨_, e⟩ | ⟨_, e⟩
    · rw [← e]; omega
    · omega
/-- states told -/
theorem PAS_s [Inhabited gh_] {w : Int} (h : PAS2 N0 Ns N T n x2) (hw : 0 ≤ w ∧ w < 4096) (hC : ∀ P C, CM2 N0 T P C → ∀ s, 0 ≤ s → bt_ w s → C s) (hn : ¬ ∀ s, 0 ≤ s → bt_ w s → bt_ (N 237 T) s) : PAS2 N0 Ns (up_ N 237 T (or_ (N 237 T) w)) T n 1 := by
  obtain ⟨⟨r1, r2, r3, r4, r5, r6⟩, hm⟩ := h
  obtain ⟨o1, o2⟩ := or_b2 (m := 12) (by decide) (x := N 237 T) (y := w) r3 hw
  have o1' : 0 ≤ or_ (N 237 T) w ∧ or_ (N 237 T) w < 4096 := o1
  refine ⟨⟨fun q h1 h2 => by rw [up_ne h1]; exact r1 q h1 h2, fun i hi => by rw [up_of2 hi]; exact r2 i hi, by rw [up_at]; exact o1', fun q q0 q1 => by rw [up_ne (by decide)]; exact r4 q q0 q1, fun P C hc => ⟨fun q q0 q1 => by rw [up_ne (by decide)]; exact (r5 P C hc).1 q q0 q1, fun s s0 hs => ?_⟩, fun q hq hq2 => by rw [up_ne (by decide)]; exact r6 q hq hq2⟩, .inr ⟨rfl, ?_⟩⟩
  · rw [up_at] at hs
    rcases (o2 s s0).1 hs with e | e
    · exact (r5 P C hc).2 s s0 e
    · exact hC P C hc s s0 e
  · have lt : N 237 T < or_ (N 237 T) w := by
      have le : N 237 T ≤ or_ (N 237 T) w := or_le r3 hw
      have ne : or_ (N 237 T) w ≠ N 237 T := fun e => hn (fun s s0 hs => by
        have := (o2 s s0).2 (.inr hs)
        rw [e] at this; exact this)
      omega
    have : msT (up_ N 237 T (or_ (N 237 T) w)) T n < msT N T n := by
      unfold msT
      rw [cz_o, up_at]; omega
    rcases hm with ⟨_, e⟩ | ⟨_, e⟩
    · rw [← e]; omega
    · omega
end QCb
end T307_qc
section T308_qc
/-! warnings: Q's come (317), its passes -/
section QCc
variable {d : Nat} {Kv : mm_ → Prop} {Qt : qt_} {V : vv_} {N N0 Ns : mm_} {T k x2 : Int} {n : Nat}
/-- labels of a trans that is told (V 177) -/
theorem l_177 [Inhabited gh_] (hV : Cl_ wd0 (Tr_ wd0 pg0 d) V (rv_ Kv) Qt m_317) (hW : Wk_ V) (b : BTT N0 T n) {Z : Prop} (hk : InT N0 T k) (hn : ∀ x2 N, PAS2 N0 Ns N T n x2 → (x2 = 0 → Z ∧ ∀ l, 0 ≤ l → l < N0 175 T → bt_ (N0 214 k) l → Ns 238 (N0 189 (10 * T + l)) = 1) → V 63 [rr 6, ii T, ii x2, ii (k + 1), none, none] [] N) :
    ∀ (j : Nat) (l : Int) (x2 : Int) (N : mm_), N0 175 T - l ≤ (j : Int) → 0 ≤ l → PAS2 N0 Ns N T n x2 → N 238 k = 1 → (x2 = 0 → Z ∧ ∀ i, 0 ≤ i → i < l → i < N0 175 T → bt_ (N0 214 k) i → Ns 238 (N0 189 (10 * T + i)) = 1) → V 177 [rr 6, ii T, ii x2, ii k, ii l, none] [] N
  | j, l, x2, N, hj, l0, h, hk1, hc => by
    obtain ⟨⟨b1, b2, bT0, bT1⟩, b3, b4, b5⟩ := b
    have b : BTT N0 T n := ⟨⟨b1, b2, bT0, bT1⟩, b3, b4, b5⟩
    have hkn := hk.1
    rw [b1] at hkn
    have fr := h.1.1
    refine b_317_177 (Tr_mono _) hV hW _ _ _ _ _ ⟨by omega, ?_⟩
    rw [fr 175 (by decide) (by decide), fr 189 (by decide) (by decide), fr 214 (by decide) (by decide)]
    by_cases c : l < N0 175 T
    · rw [if_pos c, w32_id (x := 10 * T) (by (clear hV hW hk hn hj l0 h hk1 hc b1 b2 b3 b4 b5 b hkn fr c; lia)) (by (clear hV hW hk hn hj l0 h hk1 hc b1 b2 b3 b4 b5 b hkn fr c; omega)), w32_id (x := 10 * T + l) (by (clear hV hW hk hn hj h hk1 hc b1 b2 b3 b5 b hkn fr; lia)) (by omega), w32_id (x := l + 1) (by omega) (by omega)]
      have i1 := b5 l l0 c
      have i2 := i1.1
      rw [b1] at i2
      have b14 := (b3 k hk).2.1
      have an := (an_sr (c := N0 214 k) (s := l) b14.1 (by omega) l0 (by (clear hV hW hk hn hj l0 h hk1 hc b1 b2 bT0 bT1 b3 b5 b hkn fr i1 i2 b14; omega))).2
      have nxt : ∀ x2' N', PAS2 N0 Ns N' T n x2' → N' 238 k = 1 → (x2' = 0 → Z ∧ ∀ i, 0 ≤ i → i < l + 1 → i < N0 175 T → bt_ (N0 214 k) i → Ns 238 (N0 189 (10 * T + i)) = 1) → V 177 [rr 6, ii T, ii x2', ii k, ii (l + 1), none] [] N' := fun x2' N' h' hk' hc' => by
        cases j with
        | zero => omega
        | succ j => exact l_177 hV hW b hk hn j (l + 1) x2' N' (by (clear hV hW hk hn l0 h hk1 hc b1 b2 bT0 bT1 b3 b4 b5 b hkn fr c i1 i2 b14 an h' hk' hc'; omega)) (by (clear hV hW hk hn h hk1 hc b1 b2 bT0 bT1 b3 b4 b5 b hkn fr c i1 i2 b14 an h' hk' hc' hj; omega)) h' hk' hc'
      refine ⟨by omega, by (clear hV hW hk hn hj l0 h hk1 hc b1 bT0 bT1 b3 b4 b5 b fr c i1 i2 b14 an nxt; omega), ?_⟩
      by_cases ca : an_ (sr_ (N0 214 k) l) 1 = 1
      · rw [if_pos ca]
        have ba := an.1 ca
        have r4 := (h.1.2.2.2.1 _ i2.1 i2.2).1
        refine ⟨by omega, fun _ => ?_⟩
        by_cases cz' : N 238 (N0 189 (10 * T + l)) = 0
        · rw [if_pos cz']
          refine ⟨⟨by omega, .inr rfl⟩, nxt 1 _ (PAS_t b h i1 cz' (fun P C hcm => ?_)) ?_ (fun e => by omega)⟩
          · exact hcm.2.1 k l hk ((h.1.2.2.2.2.1 P C hcm).1 k hkn.1 hkn.2 hk1) l0 c ba
          · by_cases ck : k = N0 189 (10 * T + l)
            · rw [ck, up_at]
            · rw [up_of2 ck]; exact hk1
        · rw [if_neg cz']
          refine nxt x2 N h hk1 (fun e => ⟨(hc e).1, fun i i0 i1' i2' i3 => ?_⟩)
          by_cases ci : i = l
          · rw [ci]
            rcases h.2 with ⟨_, e2⟩ | ⟨e2, _⟩
            · rw [← e2]; (clear hV hW hk hn hj l0 h hk1 hc b1 b2 bT0 bT1 b3 b4 b5 b hkn fr c i1 i2 b14 an nxt ca ba e i0 i1' i2' i3 ci e2; lia)
            · omega
          · exact (hc e).2 i i0 (by (clear hV hW hk hn hj l0 h hk1 hc b1 b2 bT0 bT1 b3 b4 b5 b hkn fr c i1 i2 b14 an nxt ca ba r4 cz' e i0 i2' i3; omega)) i2' i3
      · rw [if_neg ca]
        refine nxt x2 N h hk1 (fun e => ⟨(hc e).1, fun i i0 i1' i2' i3 => ?_⟩)
        by_cases ci : i = l
        · rw [ci] at i3; exact absurd (an.2 i3) ca
        · exact (hc e).2 i i0 (by omega) i2' i3
    · rw [if_neg c, w32_id (x := k + 1) (by omega) (by omega)]
      exact hn x2 N h (fun e => ⟨(hc e).1, fun i i0 i1 i2 => (hc e).2 i i0 (by omega) i1 i2⟩)
/-- a pass over all transes (V 63) -/
theorem l_63 [Inhabited gh_] (hV : Cl_ wd0 (Tr_ wd0 pg0 d) V (rv_ Kv) Qt m_317) (hW : Wk_ V) (b : BTT N0 T n) (hs : RCT N0 Ns T n) (hend : ∀ x2 N, PAS2 N0 Ns N T n x2 → (x2 = 0 → ∀ k, InT N0 T k → CLT N0 Ns T k) → V 55 [rr 6, ii T, ii x2, none, none, none] [] N) :
    ∀ (j : Nat) (k x2 : Int) (N : mm_), (n : Int) - k ≤ (j : Int) → 0 ≤ k → PAS2 N0 Ns N T n x2 → (x2 = 0 → ∀ i, InT N0 T i → i < k → CLT N0 Ns T i) → V 63 [rr 6, ii T, ii x2, ii k, none, none] [] N
  | j, k, x2, N, hj, k0, h, hc => by
    obtain ⟨⟨b1, b2, bT0, bT1⟩, b3, b4, b5⟩ := id b
    have fr := h.1.1
    refine b_317_63 (Tr_mono _) hV hW _ _ _ _ ?_
    rw [fr 6 (by decide) (by decide), b1, fr 211 (by decide) (by decide)]
    by_cases c : k < (n : Int)
    · rw [if_pos c, w32_id (x := k + 1) (by omega) (by (clear hV hW b hs hend hj k0 h hc bT0 bT1 b3 b4 b5 fr; lia))]
      have nxt : ∀ x2' N', PAS2 N0 Ns N' T n x2' → (x2' = 0 → ∀ i, InT N0 T i → i < k + 1 → CLT N0 Ns T i) → V 63 [rr 6, ii T, ii x2', ii (k + 1), none, none] [] N' := fun x2' N' h' hc' => by
        cases j with
        | zero => (clear hV hW b hs hend k0 h hc b1 b2 bT0 bT1 b3 b4 b5 fr h' hc'; omega)
        | succ j => exact l_63 hV hW b hs hend j (k + 1) x2' N' (by omega) (by omega) h' hc'
      refine ⟨by omega, ?_⟩
      by_cases cT : N0 211 k = T
      · rw [if_pos cT]
        have hk : InT N0 T k := ⟨by rw [b1]; exact ⟨k0, c⟩, cT⟩
        obtain ⟨b13, b14, b12⟩ := b3 k hk
        -- behind the first test
        have mid : ∀ x2' N', PAS2 N0 Ns N' T n x2' → (x2' = 0 → (x2 = 0 ∧ (N0 215 k = 0 → ∀ s, 0 ≤ s → bt_ (N0 212 k) s → bt_ (Ns 237 T) s → Ns 238 k = 1))) → V 127 [rr 6, ii T, ii x2', ii k, none, none] [] N' := fun x2' N' h' h12 => by
          have fr' := h'.1.1
          refine b_317_127 (Tr_mono _) hV hW _ _ _ _ ⟨by omega, fun _ => ?_⟩
          rw [fr' 213 (by decide) (by decide), w32_id (x := k + 1) (by omega) (by omega)]
          by_cases c8 : N' 238 k = 0
          · rw [if_pos c8]
            refine nxt x2' N' h' (fun e i hi i1 => ?_)
            by_cases ci : i = k
            · have eN : N' = Ns := by
                rcases h'.2 with ⟨_, e2⟩ | ⟨e2, _⟩
                · exact e2
                · (clear hV hW b hs hend hj k0 h hc b1 b2 bT0 bT1 b3 b4 b5 fr c nxt cT hk b13 b14 b12 h' h12 fr' c8 hi i1 ci; lia)
              rw [ci]
              refine ⟨fun e1 => ?_, (h12 e).2⟩
              rw [← eN, c8] at e1; omega
            · exact hc (h12 e).1 i hi (by (clear hV hW b hs hend hj k0 h hc b1 b2 bT0 bT1 b3 b4 b5 fr c nxt cT hk b13 b14 b12 h' h12 fr' c8 e hi; lia))
          · rw [if_neg c8]
            have k1 : N' 238 k = 1 := by
              rcases (h'.1.2.2.2.1 k k0 c).1 with e | e
              · exact absurd e c8
              · exact e
            have r3 := h'.1.2.2.1
            have lab : ∀ x3 N3, PAS2 N0 Ns N3 T n x3 → N3 238 k = 1 → (x3 = 0 → x2' = 0 ∧ ∀ s, 0 ≤ s → bt_ (N0 213 k) s → bt_ (Ns 237 T) s) → V 177 [rr 6, ii T, ii x3, ii k, ii 0, none] [] N3 := fun x3 N3 h3 hk3 h13 => by
              refine l_177 (Z := x2' = 0 ∧ ∀ s, 0 ≤ s → bt_ (N0 213 k) s → bt_ (Ns 237 T) s) hV hW b hk (fun x4 N4 h4 hl4 => nxt x4 N4 h4 (fun e i hi i1 => ?_)) 10 0 x3 N3 (by omega) (Int.le_refl _) h3 hk3 (fun e => ⟨h13 e, fun i i0 i1 => by omega⟩)
              obtain ⟨⟨z1, z2⟩, z3⟩ := hl4 e
              by_cases ci : i = k
              · rw [ci]
                exact ⟨fun _ => ⟨z2, z3⟩, (h12 z1).2⟩
              · exact hc (h12 z1).1 i hi (by (clear hV hW b hs hend hj k0 h hc b1 b2 bT0 bT1 b3 b4 b5 fr c nxt cT hk b13 b14 b12 h' h12 fr' c8 k1 r3 h3 hk3 h13 h4 hl4 e hi z3 z1 z2; omega))
            refine ⟨by omega, by omega, ?_⟩
            by_cases ca : an_ (N0 213 k) (xo_ (N' 237 T) (-1)) = 0
            · rw [if_pos ca]
              refine lab x2' N' h' k1 (fun e => ⟨e, fun s s0 hs' => ?_⟩)
              have := (an_nt ⟨b13.1, by omega⟩ ⟨r3.1, by omega⟩).1 ca s s0 hs'
              rcases h'.2 with ⟨_, e2⟩ | ⟨e2, _⟩
              · rw [← e2]; exact this
              · omega
            · rw [if_neg ca]
              refine ⟨by omega, by omega, by omega, lab 1 _ (PAS_s h' b13 (fun P C hcm s s0 hs' => ?_) (fun e => ca ((an_nt ⟨b13.1, by omega⟩ ⟨r3.1, by omega⟩).2 e))) (by rw [up_ne (by decide)]; exact k1) (fun e => by omega)⟩
              exact hcm.2.2.1 k s hk ((h'.1.2.2.2.2.1 P C hcm).1 k k0 c k1) s0 hs'
        refine ⟨by omega, fun _ => ?_⟩
        have eNs : x2 = 0 → N = Ns := fun e => by
          rcases h.2 with ⟨_, e2⟩ | ⟨e2, _⟩
          · exact e2
          · omega
        rw [fr 215 (by decide) (by decide), fr 212 (by decide) (by decide)]
        by_cases c8 : N 238 k = 0
        · rw [if_pos c8]
          refine ⟨by (clear hV hW b hs hend hj h hc bT0 bT1 b3 b4 b5 fr nxt cT hk b13 b14 b12 mid eNs c8; omega), fun _ => ?_⟩
          by_cases c5 : N0 215 k = 0
          · rw [if_pos c5]
            have b12' := b12 c5
            have r3 := h.1.2.2.1
            refine ⟨by omega, by (clear hV hW b hs hend hj k0 h hc b1 b2 b3 b4 b5 fr c nxt hk b13 b14 b12 mid eNs c8 c5 b12' r3; lia), ?_⟩
            by_cases ca : an_ (N0 212 k) (N 237 T) = 0
            · rw [if_pos ca]
              refine mid x2 N h (fun e => ⟨e, fun _ s s0 h1 h2 => ?_⟩)
              exact absurd ca ((an_ne0 ⟨b12'.1, by omega⟩ ⟨r3.1, by omega⟩).2 ⟨s, s0, h1, by rw [eNs e]; exact h2⟩)
            · rw [if_neg ca]
              refine ⟨⟨by omega, .inr rfl⟩, mid 1 _ (PAS_t b h hk c8 (fun P C hcm => ?_)) (fun e => by omega)⟩
              obtain ⟨s, s0, h1, h2⟩ := (an_ne0 ⟨b12'.1, by omega⟩ ⟨r3.1, by omega⟩).1 ca
              exact hcm.2.2.2 k s hk c5 s0 h1 ((h.1.2.2.2.2.1 P C hcm).2 s s0 h2)
          · rw [if_neg c5]
            exact mid x2 N h (fun e => ⟨e, fun e5 => absurd e5 c5⟩)
        · rw [if_neg c8]
          refine mid x2 N h (fun e => ⟨e, fun _ s _ _ _ => ?_⟩)
          rcases (h.1.2.2.2.1 k k0 c).1 with e1 | e1
          · exact absurd e1 c8
          · rw [← eNs e]; exact e1
      · rw [if_neg cT]
        refine nxt x2 N h (fun e i hi i1 => ?_)
        by_cases ci : i = k
        · rw [ci] at hi; exact absurd hi.2 cT
        · exact hc e i hi (by omega)
    · rw [if_neg c]
      refine hend x2 N h (fun e i hi => hc e i hi ?_)
      have := hi.1
      rw [b1] at this; (clear hV hW b hs hend hj k0 h hc b2 bT0 bT1 b3 b4 b5 fr e hi; omega)
end QCc
end T308_qc
section T309_qc
/-! warnings: Q's come (317), whole -/
section QCd
variable {d : Nat} {Kv : mm_ → Prop} {Qt : qt_} {V : vv_} {N N0 Ns : mm_} {T k x2 : Int} {n : Nat}
theorem ms_0 [Inhabited gh_] (h : RCT N0 N T n) : 0 ≤ msT N T n := by
  have := cz_0 (N := N) n (fun k k0 k1 => (h.2.2.2.1 k k0 k1).1)
  have := h.2.2.1
  unfold msT; (clear h; omega)
/-- nothing more to tell: what is told is what can be come to -/
theorem CLT_ok [Inhabited gh_] (b : BTT N0 T n) (h : RCT N0 N T n) (hc : ∀ k, InT N0 T k → CLT N0 N T k) {s : Int} (s0 : 0 ≤ s) : bt_ (N 237 T) s ↔ CMT N0 T s := by
  constructor
  · intro hs P C hcm; exact (h.2.2.2.2.1 P C hcm).2 s s0 hs
  · intro hs
    refine hs (fun k => N 238 k = 1) (fun s => 0 ≤ s → bt_ (N 237 T) s) ⟨fun me hm h5 => h.2.2.2.2.2 me hm h5, fun me l hm h1 l0 l1 hb => ((hc me hm).1 h1).2 l l0 l1 hb, fun me s hm h1 s0 hb _ => ((hc me hm).1 h1).1 s s0 hb, fun me s hm h5 s0 hb hcs => (hc me hm).2 h5 s s0 hb (hcs s0)⟩ s0
theorem l_55 [Inhabited gh_] (hV : Cl_ wd0 (Tr_ wd0 pg0 d) V (rv_ Kv) Qt m_317) (hW : Wk_ V) (b : BTT N0 T n) (hK : ∀ N', (∀ k : Nat, k ≠ 237 → k ≠ 238 → N' k = N0 k) → (∀ i, i ≠ T → N' 237 i = N0 237 i) → (0 ≤ N' 237 T ∧ N' 237 T < 4096) → (∀ s, 0 ≤ s → (bt_ (N' 237 T) s ↔ CMT N0 T s)) → Kv N') :
    ∀ (j : Nat) (Ns : mm_), msT Ns T n ≤ (j : Int) → RCT N0 Ns T n → V 55 [rr 6, ii T, ii 1, none, none, none] [] Ns
  | j, Ns, hj, hs => by
    refine b_317_55 (Tr_mono _) hV hW _ _ _ ?_
    rw [if_neg (by decide)]
    refine l_63 hV hW b hs (fun x2 N h hc => ?_) n 0 0 Ns (by omega) (Int.le_refl _) ⟨hs, .inl ⟨rfl, rfl⟩⟩ (fun _ i hi i1 => by have := hi.1; omega)
    rcases h.2 with ⟨e, e2⟩ | ⟨e, e2⟩
    · rw [e]
      refine b_317_55 (Tr_mono _) hV hW _ _ _ ?_
      rw [if_pos rfl]
      rw [e2]
      exact rv_i (hK Ns hs.1 hs.2.1 hs.2.2.1 (fun s s0 => CLT_ok b hs (hc e) s0))
    · rw [e]
      have m0 := ms_0 h.1
      cases j with
      | zero => omega
      | succ j => exact l_55 hV hW b hK j N (by omega) h.1
/-- the first telling -/
theorem l_9c [Inhabited gh_] (hV : Cl_ wd0 (Tr_ wd0 pg0 d) V (rv_ Kv) Qt m_317) (hW : Wk_ V) (b : BTT N0 T n) (hK : ∀ N, RCT N0 N T n → V 55 [rr 6, ii T, ii 1, none, none, none] [] N) :
    ∀ (j : Nat) (k : Int) (N : mm_), (n : Int) - k ≤ (j : Int) → 0 ≤ k → k ≤ n → (∀ q : Nat, q ≠ 237 → q ≠ 238 → N q = N0 q) → (∀ i, i ≠ T → N 237 i = N0 237 i) → N 237 T = 0 → (∀ i, 0 ≤ i → i < k → (N 238 i = 0 ∧ ¬ (N0 211 i = T ∧ N0 215 i ≠ 0)) ∨ (N 238 i = 1 ∧ N0 211 i = T ∧ N0 215 i ≠ 0)) → V 9 [rr 6, ii T, ii k, none, none, none] [] N
  | j, k, N, hj, k0, kn, h1, h2, h3, h4 => by
    obtain ⟨⟨b1, b2, bT0, bT1⟩, b3, b4, b5⟩ := id b
    refine b_317_9 (Tr_mono _) hV hW _ _ _ ?_
    rw [h1 6 (by decide) (by decide), b1, h1 211 (by decide) (by decide), h1 215 (by decide) (by decide)]
    by_cases c : k < (n : Int)
    · rw [if_pos c, w32_id (x := k + 1) (by omega) (by omega)]
      have nxt : ∀ v : Int, ((v = 0 ∧ ¬ (N0 211 k = T ∧ N0 215 k ≠ 0)) ∨ (v = 1 ∧ N0 211 k = T ∧ N0 215 k ≠ 0)) → V 9 [rr 6, ii T, ii (k + 1), none, none, none] [] (up_ N 238 k v) := fun v hv => by
        cases j with
        | zero => omega
        | succ j =>
          refine l_9c hV hW b hK j (k + 1) _ (by omega) (by omega) (by omega) (fun q e1 e2 => by rw [up_ne e2]; exact h1 q e1 e2) (fun i hi => by rw [up_ne (by decide)]; exact h2 i hi) (by rw [up_ne (by decide)]; exact h3) (fun i i0 i1 => ?_)
          by_cases ci : i = k
          · rw [ci, up_at]; exact hv
          · rw [up_of2 ci]; exact h4 i i0 (by omega)
      refine ⟨by omega, ?_⟩
      by_cases cT : N0 211 k = T
      · rw [if_pos cT]
        refine ⟨by omega, fun _ => ?_⟩
        by_cases c5 : N0 215 k = 0
        · rw [if_pos c5]; exact ⟨⟨by omega, .inl rfl⟩, nxt 0 (.inl ⟨rfl, fun e => e.2 c5⟩)⟩
        · rw [if_neg c5]; exact ⟨⟨by omega, .inr rfl⟩, nxt 1 (.inr ⟨rfl, cT, c5⟩)⟩
      · rw [if_neg cT]; exact ⟨⟨by omega, .inl rfl⟩, nxt 0 (.inl ⟨rfl, fun e => cT e.1⟩)⟩
    · rw [if_neg c]
      have ek : k = n := by omega
      rw [ek] at h4
      refine hK N ⟨h1, h2, by rw [h3]; decide, fun i i0 i1 => ?_, fun P C hcm => ⟨fun i i0 i1 hi => ?_, fun s _ hs => ?_⟩, fun i hi h5 => ?_⟩
      · rcases h4 i i0 i1 with ⟨e, _⟩ | ⟨e, e2, _⟩
        · exact ⟨.inl e, fun e1 => by omega⟩
        · exact ⟨.inr e, fun _ => e2⟩
      · rcases h4 i i0 i1 with ⟨e, _⟩ | ⟨e, e2, e3⟩
        · omega
        · exact hcm.1 i ⟨by rw [b1]; exact ⟨i0, i1⟩, e2⟩ e3
      · rw [h3] at hs; exact absurd hs bt_0
      · have hi1 := hi.1
        rw [b1] at hi1
        rcases h4 i hi1.1 hi1.2 with ⟨_, e⟩ | ⟨e, _⟩
        · exact absurd ⟨hi.2, h5⟩ e
        · exact e
theorem q_317 [Inhabited gh_] (b : BTT N T n) (hK : ∀ N', (∀ k : Nat, k ≠ 237 → k ≠ 238 → N' k = N k) → (∀ i, i ≠ T → N' 237 i = N 237 i) → (0 ≤ N' 237 T ∧ N' 237 T < 4096) → (∀ s, 0 ≤ s → (bt_ (N' 237 T) s ↔ CMT N T s)) → Kv N') : Tr_ wd0 pg0 (d + 1) 317 [.inr (.inr 6), .inl T] N (rv_ Kv) Qt := by
  have bT := b.1.2.2
  refine t_317 fun V hV hW => b_317_0 (Tr_mono _) hV hW _ _ ⟨bT, ?_⟩
  refine l_9c hV hW b (fun N1 h1 => l_55 hV hW b hK (msT N1 T n).toNat N1 (by have := ms_0 h1; omega) h1) n 0 (up_ N 237 T 0) (by omega) (Int.le_refl _) (by omega) (fun q e1 _ => up_ne e1) (fun i hi => up_of2 hi) up_at (fun i i0 i1 => by omega)
end QCd
end T309_qc
section T310_qw
/-! warnings: Q's walk (316), types -/
def SNT (N : mm_) (s : Int) : Prop := (∃ k, (0 ≤ k ∧ k < N 6 75) ∧ N 203 k = 2 ∧ N 205 k = s) ∨ ∃ r, (0 ≤ r ∧ r < N 6 18) ∧ N 160 r = -1 ∧ bt_ (N 164 r) s
def HRD (N : mm_) (s : Int) : Prop := (∃ k i, (0 ≤ k ∧ k < N 6 62) ∧ N 193 k = 0 ∧ (N 198 k ≤ i ∧ i < N 199 k) ∧ N 200 i = s) ∨ ∃ r, (0 ≤ r ∧ r < N 6 18) ∧ N 161 r = -1 ∧ bt_ (N 164 r) s
def MAD (N : mm_) (T : Int) : Prop := 0 < N 168 T ∨ ∃ k, (0 ≤ k ∧ k < N 6 75) ∧ N 203 k = 5 ∧ N 205 k = T
def JND (N : mm_) (T l : Int) : Prop := ∃ me, InT N T me ∧ bt_ (N 214 me) l
def WQF (N0 N : mm_) (R : List (Int × Int)) : Prop := (∀ k : Nat, k ∉ [6, 235, 236, 237, 238] → N k = N0 k) ∧ (∀ i : Int, i ≠ 120 → N 6 i = N0 6 i) ∧ N 6 120 = (R.length : Int) ∧ WAr (N 235) (N 236) R
/-- the list of the types' warnings, of the signals' -/
noncomputable def tyL (N : mm_) (ns nl : Int → Nat) (n : Nat) : List (Int × Int) := tyW (CMT N) (JND N) (MAD N) (fun T k => N 186 (12 * T + k)) (fun T k => N 187 (10 * T + k)) (fun T => N 167 T) ns nl n
noncomputable def sgL9 (N : mm_) (n : Nat) : List (Int × Int) := sgW (SNT N) (HRD N) (fun s => N 155 s) n
section QWa
variable {d : Nat} {Kv : mm_ → Prop} {Qt : qt_} {V : vv_} {N N0 : mm_} {T : Int} {x2 x3 : Int}
theorem or01 [Inhabited gh_] {x y : Int} (hx : x = 0 ∨ x = 1) (hy : y = 0 ∨ y = 1) : or_ x y = (if x = 1 ∨ y = 1 then 1 else 0) := by
  rcases hx with e | e <;> rcases hy with e' | e' <;> rw [e, e'] <;> decide
theorem q_w1 [Inhabited gh_] {R : List (Int × Int)} {P : Prop} {kd p : Int} (h : WQF N0 N R) (hl : R.length < 400) (hP : ¬ P) (hK : ∀ N', WQF N0 N' (inA (ifP P [(kd, p)]) R) → N' 237 = N 237 → Kv N') : Tr_ wd0 pg0 (d + 1) 318 [.inr (.inr 6), .inl kd, .inl p] N (rv_ Kv) Qt := by
  obtain ⟨a1, a2, a3, a4⟩ := h
  refine q_318 a3 hl a4 (fun N' f1 f2 f3 f4 => hK N' ?_ (f1 237 (by decide)))
  rw [ifP_f hP]
  exact ⟨fun k hk => (f1 k (fun e => hk (by simp only [List.mem_cons, List.not_mem_nil, or_false] at e ⊢; (clear hl hP hK a1 a2 a3 a4 f1 f2 f3 f4 hk; lia)))).trans (a1 k hk), fun i hi => (f2 i hi).trans (a2 i hi), f3, f4⟩
/-- labels -/
theorem l_193 [Inhabited gh_] (hV : Cl_ wd0 (Tr_ wd0 pg0 (d + 1)) V (rv_ Kv) Qt m_316) (hW : Wk_ V) {n : Nat} (hT : 0 ≤ T ∧ T < 6) (hn : N0 175 T = n) (hn1 : n ≤ 10) (h3 : 0 ≤ x3 ∧ x3 < 1024) (hJ : ∀ l, 0 ≤ l → l < (n : Int) → (bt_ x3 l ↔ JND N0 T l)) {R : List (Int × Int)} (hl : R.length + n < 400)
    (hK : ∀ N', WQF N0 N' (inA (rwW 5 (JND N0 T) (fun k => N0 187 (10 * T + k)) n) R) → V 7 [rr 6, ii (T + 1), none, none, none, none] [] N') : ∀ (j k : Nat) (N : mm_), k + j = n → WQF N0 N (inA (rwW 5 (JND N0 T) (fun k => N0 187 (10 * T + k)) k) R) → V 193 [rr 6, ii T, ii x2, ii x3, ii (k : Int), none] [] N
  | j, k, N, hj, h => by
    refine b_316_193 (Tr_mono _) hV hW _ _ _ _ _ ⟨hT, ?_⟩
    rw [h.1 175 (by decide), hn, h.1 187 (by decide)]
    by_cases c : (k : Int) < n
    · rw [if_pos c]
      cases j with
      | zero => omega
      | succ j =>
        have ea : inA (rwW 5 (JND N0 T) (fun k => N0 187 (10 * T + k)) (k + 1)) R = inA (ifP (JND N0 T k) [(5, N0 187 (10 * T + k))]) (inA (rwW 5 (JND N0 T) (fun k => N0 187 (10 * T + k)) k) R) := by show inA (rwW 5 (JND N0 T) (fun k => N0 187 (10 * T + k)) k ++ _) R = _; rw [inA_app]
        have an := (an_sr (c := x3) (s := k) h3.1 (by omega) (by (clear hV hW hT hn hn1 h3 hJ hl hK h c hj ea; lia)) (by omega)).1
        rw [w32_id (x := 10 * T) (by omega) (by omega), w32_id (x := 10 * T + (k : Int)) (by (clear hV hW hn hn1 h3 hJ hl hK h c hj ea an; lia)) (by omega), w32_id (x := (k : Int) + 1) (by omega) (by omega)]
        have hj1 := hJ k (by omega) c
        have hlen := rwW_len (k0 := 5) (C := JND N0 T) (p := fun k => N0 187 (10 * T + k)) k
        by_cases cj : an_ (sr_ x3 k) 1 = 0
        · rw [if_pos cj]
          refine ⟨by (clear hV hW hn h3 hJ hl hK h ea an hj1 hlen cj; omega), q_w1 (P := JND N0 T k) h (by rw [inA_len]; omega) (fun e => (an.1 cj) (hj1.2 e)) (fun N' h' _ => ?_)⟩
          exact l_193 hV hW hT hn hn1 h3 hJ hl hK j (k + 1) N' (by omega) (by rw [ea]; exact h')
        · rw [if_neg cj]
          have w : JND N0 T k := hj1.1 (Classical.byContradiction fun e => cj (an.2 e))
          exact l_193 hV hW hT hn hn1 h3 hJ hl hK j (k + 1) N (by omega) (by rw [ea, ifP_t w]; exact h)
    · rw [if_neg c, w32_id (x := T + 1) (by omega) (by omega)]
      have ek : k = n := by omega
      rw [ek] at h; exact hK N h
/-- joins, and whether it is made -/
theorem l_135 [Inhabited gh_] (hV : Cl_ wd0 (Tr_ wd0 pg0 (d + 1)) V (rv_ Kv) Qt m_316) (hW : Wk_ V) {n : Nat} (b : BTT N0 T n) (hm : (x2 = 0 ∨ x2 = 1) ∧ (x2 = 1 ↔ MAD N0 T)) {R : List (Int × Int)} (hl : R.length < 400) (h : WQF N0 N R)
    (hK : ∀ x3 N', (0 ≤ x3 ∧ x3 < 1024) → (∀ l, 0 ≤ l → (bt_ x3 l ↔ JND N0 T l)) → WQF N0 N' (inA (ifP (MAD N0 T) [(4, N0 167 T)]) R) → V 193 [rr 6, ii T, ii x2, ii x3, ii 0, none] [] N') : ∀ (j : Nat) (k x3 : Int), (n : Int) - k ≤ (j : Int) → 0 ≤ k → k ≤ n → (0 ≤ x3 ∧ x3 < 1024) → (∀ l, 0 ≤ l → (bt_ x3 l ↔ ∃ me, InT N0 T me ∧ me < k ∧ bt_ (N0 214 me) l)) → V 135 [rr 6, ii T, ii x2, ii x3, ii k, none] [] N
  | j, k, x3, hj, k0, kn, h3, hb => by
    obtain ⟨⟨b1, b2, bT0, bT1⟩, b3, b4, b5⟩ := id b
    refine b_316_135 (Tr_mono _) hV hW _ _ _ _ _ ?_
    rw [h.2.1 76 (by decide), b1, h.1 211 (by decide), h.1 214 (by decide), h.1 167 (by decide)]
    by_cases c : k < (n : Int)
    · rw [if_pos c, w32_id (x := k + 1) (by (clear hV hW b hm hl h hK hj kn h3 hb b1 b2 bT0 bT1 b3 b4 b5 c; omega)) (by (clear hV hW b hm hl h hK hj k0 kn h3 hb bT0 bT1 b3 b4 b5; lia))]
      have nxt : ∀ x, (0 ≤ x ∧ x < 1024) → (∀ l, 0 ≤ l → (bt_ x l ↔ ∃ me, InT N0 T me ∧ me < k + 1 ∧ bt_ (N0 214 me) l)) → V 135 [rr 6, ii T, ii x2, ii x, ii (k + 1), none] [] N := fun x hx hxb => by
        cases j with
        | zero => (clear hV hW b hm hl h hK k0 kn h3 hb b2 bT0 bT1 b3 b4 b5 hx hxb; omega)
        | succ j => exact l_135 hV hW b hm hl h hK j (k + 1) x (by (clear hV hW b hm hl h hK k0 kn h3 hb b2 bT0 bT1 b3 b4 b5 c hx hxb; omega)) (by (clear hV hW b hm hl h hK kn h3 hb b1 b2 bT0 bT1 b3 b4 b5 c hx hxb hj; omega)) (by (clear hV hW b hm hl h hK k0 kn h3 hb b2 bT0 bT1 b3 b4 b5 hx hxb hj; omega)) hx hxb
      refine ⟨by (clear hV hW b hm hl h hK hj kn h3 hb bT0 bT1 b3 b4 b5 nxt; omega), ?_⟩
      by_cases cT : N0 211 k = T
      · rw [if_pos cT]
        have hk : InT N0 T k := ⟨by rw [b1]; exact ⟨k0, c⟩, cT⟩
        obtain ⟨o1, o2⟩ := or_b2 (m := 10) (by decide) (x := x3) (y := N0 214 k) h3 (b3 k hk).2.1
        refine ⟨by omega, nxt _ o1 (fun l l0 => ?_)⟩
        rw [o2 l l0, hb l l0]
        constructor
        · rintro (⟨me, e1, e2, e3⟩ | e)
          · exact ⟨me, e1, by (clear hV hW b hm hl h hK hj k0 kn h3 hb b1 b2 bT0 bT1 b3 b4 b5 c nxt cT hk o1 o2 l0 e1 e3; lia), e3⟩
          · exact ⟨k, hk, by omega, e⟩
        · rintro ⟨me, e1, e2, e3⟩
          by_cases cm : me = k
          · rw [cm] at e3; exact .inr e3
          · exact .inl ⟨me, e1, by (clear hV hW b hm hl h hK hj k0 kn h3 hb b1 b2 bT0 bT1 b3 b4 b5 c nxt cT hk o1 o2 l0 e1 e3; lia), e3⟩
      · rw [if_neg cT]
        obtain ⟨o1, o2⟩ := or_b2 (m := 10) (by decide) (x := x3) (y := 0) h3 (by decide)
        refine nxt _ o1 (fun l l0 => ?_)
        rw [o2 l l0, hb l l0]
        constructor
        · rintro (⟨me, e1, e2, e3⟩ | e)
          · exact ⟨me, e1, by omega, e3⟩
          · exact absurd e bt_0
        · rintro ⟨me, e1, e2, e3⟩
          by_cases cm : me = k
          · rw [cm] at e1; exact absurd e1.2 cT
          · exact .inl ⟨me, e1, by omega, e3⟩
    · rw [if_neg c]
      have jn : ∀ l, 0 ≤ l → (bt_ x3 l ↔ JND N0 T l) := fun l l0 => by
        rw [hb l l0]
        unfold JND
        constructor
        · rintro ⟨me, e1, _, e3⟩; exact ⟨me, e1, e3⟩
        · rintro ⟨me, e1, e3⟩
          refine ⟨me, e1, ?_, e3⟩
          have := e1.1
          rw [b1] at this; (clear hV hW b hm hl h hK hj k0 h3 hb b2 bT0 bT1 b3 b4 b5 l0 e1 e3; omega)
      by_cases c2 : x2 = 0
      · rw [if_pos c2]
        exact ⟨⟨bT0, bT1⟩, q_w1 (P := MAD N0 T) h hl (fun e => by have := hm.2.2 e; (clear hV hW b hm hl h hK hj k0 kn h3 hb b1 b2 bT0 bT1 b3 b4 b5 c jn e; lia)) (fun N' h' _ => hK x3 N' h3 jn h')⟩
      · rw [if_neg c2]
        have w : MAD N0 T := hm.2.1 (by (clear hV hW b hl h hK hj k0 kn h3 hb b1 b2 bT0 bT1 b3 b4 b5 c jn; lia))
        exact hK x3 N h3 jn (by rw [ifP_t w]; exact h)
theorem l_87 [Inhabited gh_] (hV : Cl_ wd0 (Tr_ wd0 pg0 (d + 1)) V (rv_ Kv) Qt m_316) (hW : Wk_ V) {n : Nat} {R : List (Int × Int)} (h : WQF N0 N R) (hn : N0 6 75 = n) (hn1 : n ≤ 1300)
    (hK : ∀ x2, (x2 = 0 ∨ x2 = 1) → (x2 = 1 ↔ MAD N0 T) → V 135 [rr 6, ii T, ii x2, ii 0, ii 0, none] [] N) : ∀ (j : Nat) (k x2 : Int), (n : Int) - k ≤ (j : Int) → 0 ≤ k → k ≤ n → (x2 = 0 ∨ x2 = 1) → (x2 = 1 ↔ (0 < N0 168 T ∨ ∃ i, (0 ≤ i ∧ i < k) ∧ N0 203 i = 5 ∧ N0 205 i = T)) → V 87 [rr 6, ii T, ii x2, ii 0, ii k, none] [] N
  | j, k, x2, hj, k0, kn, h2, hb => by
    refine b_316_87 (Tr_mono _) hV hW _ _ _ _ _ ?_
    rw [h.2.1 75 (by decide), hn, h.1 203 (by decide), h.1 205 (by decide)]
    by_cases c : k < (n : Int)
    · rw [if_pos c, w32_id (x := k + 1) (by (clear hV hW h hn hn1 hK hj kn h2 hb c; omega)) (by omega)]
      have nxt : ∀ x, (x = 0 ∨ x = 1) → (x = 1 ↔ (0 < N0 168 T ∨ ∃ i, (0 ≤ i ∧ i < k + 1) ∧ N0 203 i = 5 ∧ N0 205 i = T)) → V 87 [rr 6, ii T, ii x, ii 0, ii (k + 1), none] [] N := fun x hx hxb => by
        cases j with
        | zero => (clear hV hW h hn hn1 hK k0 kn h2 hb hx hxb; omega)
        | succ j => exact l_87 hV hW h hn hn1 hK j (k + 1) x (by (clear hV hW h hn hn1 hK k0 kn h2 hb c hx hxb; omega)) (by omega) (by (clear hV hW h hn hn1 hK k0 kn h2 hb hx hxb hj; omega)) hx hxb
      have no : ¬ (N0 203 k = 5 ∧ N0 205 k = T) → V 87 [rr 6, ii T, ii (or_ x2 0), ii 0, ii (k + 1), none] [] N := fun hno => by
        have e : or_ x2 0 = x2 := by rcases h2 with e | e <;> rw [e] <;> decide
        rw [e]
        refine nxt x2 h2 (hb.trans ⟨fun g => g.imp id fun ⟨i, hi, e⟩ => ⟨i, by omega, e⟩, fun g => g.imp id fun ⟨i, hi, e⟩ => ⟨i, ?_, e⟩⟩)
        by_cases ci : i = k
        · rw [ci] at e; exact absurd e hno
        · omega
      refine ⟨by (clear hV hW h hn hK hj kn h2 hb nxt no; omega), ?_⟩
      by_cases c1 : N0 203 k = 5
      · rw [if_pos c1]
        refine ⟨by omega, ?_⟩
        by_cases c2 : N0 205 k = T
        · rw [if_pos c2]
          have e : or_ x2 1 = 1 := by rcases h2 with e | e <;> rw [e] <;> decide
          rw [e]
          exact nxt 1 (.inr rfl) ⟨fun _ => .inr ⟨k, by omega, c1, c2⟩, fun _ => rfl⟩
        · rw [if_neg c2]; exact no (fun e => c2 e.2)
      · rw [if_neg c1]; exact no (fun e => c1 e.1)
    · rw [if_neg c]
      have ek : k = n := by (clear hV hW h hn hn1 hK hj k0 h2 hb; lia)
      refine hK x2 h2 (hb.trans ?_)
      unfold MAD
      rw [hn, ek]
end QWa
end T310_qw
section T311_qw
/-! warnings: Q's walk (316), types and signals -/
section QWb
variable {d : Nat} {Kv : mm_ → Prop} {Qt : qt_} {V : vv_} {N N0 : mm_} {T : Int} {x2 x3 : Int}
theorem WQF_c [Inhabited gh_] {N1 : mm_} {R : List (Int × Int)} (h : WQF N0 N R) (h1 : ∀ k : Nat, k ≠ 237 → k ≠ 238 → N1 k = N k) : WQF N0 N1 R := ⟨fun k hk => by rw [h1 k (fun e => hk (by rw [e]; decide)) (fun e => hk (by rw [e]; decide))]; exact h.1 k hk, fun i hi => by rw [h1 6 (by decide) (by decide)]; exact h.2.1 i hi, by rw [h1 6 (by decide) (by decide)]; exact h.2.2.1, by rw [h1 235 (by decide) (by decide), h1 236 (by decide) (by decide)]; exact h.2.2.2⟩
/-- states -/
theorem l_22 [Inhabited gh_] (hV : Cl_ wd0 (Tr_ wd0 pg0 (d + 1)) V (rv_ Kv) Qt m_316) (hW : Wk_ V) {n : Nat} {w : Int} (hT : 0 ≤ T ∧ T < 6) (hn : N0 174 T = n) (hn1 : n ≤ 12) (hw : 0 ≤ w ∧ w < 4096) (hC : ∀ s, 0 ≤ s → (bt_ w s ↔ CMT N0 T s)) {R : List (Int × Int)} (hl : R.length + n < 400)
    (hK : ∀ N', WQF N0 N' (inA (rwW 1 (CMT N0 T) (fun k => N0 186 (12 * T + k)) n) R) → V 87 [rr 6, ii T, ii (if N0 168 T ≤ 0 then 0 else 1), ii 0, ii 0, none] [] N') : ∀ (j k : Nat) (N : mm_), k + j = n → N 237 T = w → WQF N0 N (inA (rwW 1 (CMT N0 T) (fun k => N0 186 (12 * T + k)) k) R) → V 22 [rr 6, ii T, ii (k : Int), none, none, none] [] N
  | j, k, N, hj, hN, h => by
    refine b_316_22 (Tr_mono _) hV hW _ _ _ ⟨hT, ?_⟩
    rw [h.1 174 (by decide), hn, h.1 186 (by decide), h.1 168 (by decide), hN]
    by_cases c : (k : Int) < n
    · rw [if_pos c]
      cases j with
      | zero => (clear hV hW hT hn hn1 hw hC hl hK hN h; omega)
      | succ j =>
        have ea : inA (rwW 1 (CMT N0 T) (fun k => N0 186 (12 * T + k)) (k + 1)) R = inA (ifP (CMT N0 T k) [(1, N0 186 (12 * T + k))]) (inA (rwW 1 (CMT N0 T) (fun k => N0 186 (12 * T + k)) k) R) := by show inA (rwW 1 (CMT N0 T) (fun k => N0 186 (12 * T + k)) k ++ _) R = _; rw [inA_app]
        have an := (an_sr (c := w) (s := k) hw.1 (by (clear hV hW hT hn hn1 hC hl hK h c hj ea; omega)) (by omega) (by omega)).1
        rw [w32_id (x := 12 * T) (by omega) (by omega), w32_id (x := 12 * T + (k : Int)) (by omega) (by omega), w32_id (x := (k : Int) + 1) (by omega) (by omega)]
        have hj1 := hC k (by omega)
        have hlen := rwW_len (k0 := 1) (C := CMT N0 T) (p := fun k => N0 186 (12 * T + k)) k
        refine ⟨hT, ?_⟩
        by_cases cj : an_ (sr_ w k) 1 = 0
        · rw [if_pos cj]
          refine ⟨by (clear hV hW hn hw hC hl hK hN h ea an hj1 hlen cj; omega), q_w1 (P := CMT N0 T k) h (by rw [inA_len]; (clear hV hW hT hn hw hC hK hN h ea an hj1 cj; lia)) (fun e => (an.1 cj) (hj1.2 e)) (fun N' h' e' => ?_)⟩
          exact l_22 hV hW hT hn hn1 hw hC hl hK j (k + 1) N' (by omega) (by rw [e']; exact hN) (by rw [ea]; exact h')
        · rw [if_neg cj]
          have w' : CMT N0 T k := hj1.1 (Classical.byContradiction fun e => cj (an.2 e))
          exact l_22 hV hW hT hn hn1 hw hC hl hK j (k + 1) N (by omega) hN (by rw [ea, ifP_t w']; exact h)
    · rw [if_neg c]
      have ek : k = n := by omega
      rw [ek] at h
      have := hK N h
      refine ⟨hT, ?_⟩
      by_cases c8 : N0 168 T ≤ 0
      · rw [if_pos c8] at this ⊢; exact this
      · rw [if_neg c8] at this ⊢; exact this
/-- all types -/
theorem l_7 [Inhabited gh_] (hV : Cl_ wd0 (Tr_ wd0 pg0 (d + 1)) V (rv_ Kv) Qt m_316) (hW : Wk_ V) {n nc nt : Nat} {ns nl : Int → Nat} (hn : N0 6 19 = n) (hn1 : n ≤ 6) (hc : N0 6 75 = nc ∧ nc ≤ 1300) (hnl : ∀ T, 0 ≤ T → T < (n : Int) → (N0 174 T = ns T ∧ ns T ≤ 12) ∧ (N0 175 T = nl T ∧ nl T ≤ 10)) (hb : ∀ T, 0 ≤ T → T < (n : Int) → BTT N0 T nt)
    (hK : ∀ N', WQF N0 N' (inA (tyL N0 ns nl n) []) → V 244 [rr 6, ii 0, none, none, none, none] [] N') : ∀ (j k : Nat) (N : mm_), k + j = n → WQF N0 N (inA (tyL N0 ns nl k) []) → V 7 [rr 6, ii (k : Int), none, none, none, none] [] N
  | j, k, N, hj, h => by
    refine b_316_7 (Tr_mono _) hV hW _ _ ?_
    rw [h.2.1 19 (by decide), hn]
    by_cases c : (k : Int) < n
    · rw [if_pos c]
      cases j with
      | zero => omega
      | succ j =>
        have hlen := tyW_len (C := CMT N0) (J := JND N0) (Md := MAD N0) (p12 := fun T k => N0 186 (12 * T + k)) (p10 := fun T k => N0 187 (10 * T + k)) (pT := fun T => N0 167 T) (ns := ns) (nl := nl) k (fun T hT => ⟨(hnl T (by omega) (by (clear hV hW hn hc hnl hb hK h; lia))).1.2, (hnl T (by omega) (by omega)).2.2⟩)
        have hlen' : (tyL N0 ns nl k).length ≤ 23 * k := hlen
        obtain ⟨⟨s1, s2⟩, l1, l2⟩ := hnl k (by omega) c
        have b := hb k (by omega) c
        have hI : ∀ (A : mm_), (∀ q : Nat, q ∉ [6, 235, 236, 237, 238] → A q = N0 q) → (∀ i : Int, i ≠ 120 → A 6 i = N0 6 i) → BTT A k nt ∧ (∀ s, CMT A k s ↔ CMT N0 k s) := fun A hA h6 => by
          have i1 : ∀ me, InT A k me ↔ InT N0 k me := fun me => by unfold InT; rw [h6 76 (by decide), hA 211 (by decide)]
          have e2 : ∀ P C, CM2 A k P C ↔ CM2 N0 k P C := fun P C => by
            unfold CM2 InT
            rw [h6 76 (by decide), hA 211 (by decide), hA 215 (by decide), hA 175 (by decide), hA 214 (by decide), hA 189 (by decide), hA 213 (by decide), hA 212 (by decide)]
          refine ⟨?_, fun s => ⟨fun g P C hc => g P C ((e2 P C).2 hc), fun g P C hc => g P C ((e2 P C).1 hc)⟩⟩
          unfold BTT InT
          rw [h6 76 (by decide), hA 211 (by decide), hA 213 (by decide), hA 214 (by decide), hA 215 (by decide), hA 212 (by decide), hA 175 (by decide), hA 189 (by decide)]
          exact b
        obtain ⟨bN, cN⟩ := hI N h.1 h.2.1
        refine q_317 bN (fun N1 f1 f2 f3 f4 => ?_)
        have h1 : WQF N0 N1 (inA (tyL N0 ns nl k) []) := WQF_c h f1
        have r1 := rwW_len (k0 := 1) (C := CMT N0 k) (p := fun i => N0 186 (12 * (k : Int) + i)) (ns k)
        refine l_22 hV hW (by (clear hV hW hn hc hnl hb hK h hlen hlen' s1 s2 l1 l2 b hI bN cN f1 f2 f3 f4 h1 r1; lia)) s1 s2 f3 (fun s s0 => (f4 s s0).trans (cN s)) (R := inA (tyL N0 ns nl k) []) (by rw [inA_len]; simp; (clear hV hW hn hc hnl hb hK h hlen s1 l1 l2 b hI bN cN f1 f2 f3 f4 h1 r1; lia)) (fun N2 h2 => ?_) (ns k) 0 N1 (by (clear hV hW hn hn1 hc hnl hb hK h c hj hlen hlen' s1 s2 l1 l2 b hI bN cN f1 f2 f3 f4 h1 r1; lia)) rfl h1
        refine l_87 hV hW h2 hc.1 hc.2 (fun x2 hx hm => ?_) nc 0 _ (by omega) (Int.le_refl _) (by omega) (by split <;> simp) ?_
        · refine l_135 hV hW b ⟨hx, hm⟩ (by rw [inA_len, inA_len]; simp; (clear hV hW hn hc hnl hb hK h hlen s1 l1 l2 b hI bN cN f1 f2 f3 f4 h1 h2 hx hm; lia)) h2 (fun x3 N3 h3 hj3 hw3 => ?_) nt 0 0 (by (clear hV hW hn hn1 hc hnl hb hK h c hj hlen hlen' s1 s2 l1 l2 b hI bN cN f1 f2 f3 f4 h1 r1 h2 hx hm; lia)) (Int.le_refl _) (by (clear hV hW hn hn1 hc hnl hb hK h c hj hlen hlen' s1 s2 l1 l2 b hI bN cN f1 f2 f3 f4 h1 r1 h2 hx hm; lia)) (by decide) (fun l l0 => ⟨fun e => absurd e bt_0, fun ⟨me, e1, e2, _⟩ => by have := e1.1; (clear hV hW hn hn1 hc hnl hb hK h c hj hlen hlen' s1 s2 l1 l2 b hI bN cN f1 f2 f3 f4 h1 r1 h2 hx hm l0 e1; omega)⟩)
          have hu := @ifP_len _ (MAD N0 k) (4, N0 167 k)
          refine l_193 hV hW (by (clear hV hW hn hc hnl hb hK h hlen hlen' s1 s2 l1 l2 b hI bN cN f1 f2 f3 f4 h1 r1 h2 hx hm h3 hj3 hw3 hu; omega)) l1 l2 h3 (fun l l0 _ => hj3 l l0) (R := inA (ifP (MAD N0 k) [(4, N0 167 k)]) (inA (rwW 1 (CMT N0 k) (fun i => N0 186 (12 * (k : Int) + i)) (ns k)) (inA (tyL N0 ns nl k) []))) (by rw [inA_len, inA_len, inA_len]; simp; (clear hV hW hn hc hnl hb hK h hlen s1 l1 b hI bN cN f1 f2 f3 f4 h1 h2 hx hm h3 hj3 hw3; omega)) (fun N4 h4 => ?_) (nl k) 0 N3 (by (clear hV hW hn hn1 hc hnl hb hK h c hj hlen hlen' s1 s2 l1 l2 b hI bN cN f1 f2 f3 f4 h1 r1 h2 hx hm h3 hj3 hw3 hu; lia)) hw3
          refine l_7 hV hW hn hn1 hc hnl hb hK j (k + 1) N4 (by (clear hV hW hn hn1 hc hnl hb hK h c hlen hlen' s1 s2 l1 l2 b hI bN cN f1 f2 f3 f4 h1 r1 h2 hx hm h3 hj3 hw3 hu h4; lia)) ?_
          have ea : inA (tyL N0 ns nl (k + 1)) [] = inA (rwW 5 (JND N0 k) (fun i => N0 187 (10 * (k : Int) + i)) (nl k)) (inA (ifP (MAD N0 k) [(4, N0 167 k)]) (inA (rwW 1 (CMT N0 k) (fun i => N0 186 (12 * (k : Int) + i)) (ns k)) (inA (tyL N0 ns nl k) []))) := by
            show inA (tyW (CMT N0) (JND N0) (MAD N0) (fun T k => N0 186 (12 * T + k)) (fun T k => N0 187 (10 * T + k)) (fun T => N0 167 T) ns nl k ++ (rwW 1 (CMT N0 k) (fun i => N0 186 (12 * (k : Int) + i)) (ns k) ++ ifP (MAD N0 k) [(4, N0 167 k)] ++ rwW 5 (JND N0 k) (fun i => N0 187 (10 * (k : Int) + i)) (nl k))) [] = _
            rw [inA_app, inA_app, inA_app]; rfl
          rw [ea]; exact h4
        · constructor
          · intro e; left
            by_cases c8 : N0 168 k ≤ 0
            · rw [if_pos c8] at e; (clear hV hW hn hn1 hc hnl hb hK h c hj hlen hlen' s1 s2 l1 l2 b hI bN cN f1 f2 f3 f4 h1 r1 h2 c8; omega)
            · (clear hV hW hn hn1 hc hnl hb hK h c hj hlen hlen' s1 s2 l1 l2 b hI bN cN f1 f2 f3 f4 h1 r1 h2 e; omega)
          · rintro (e | ⟨i, hi, _⟩)
            · rw [if_neg (by (clear hV hW hn hn1 hc hnl hb hK h c hj hlen hlen' s1 s2 l1 l2 b hI bN cN f1 f2 f3 f4 h1 r1 h2; lia))]
            · omega
    · rw [if_neg c]
      have ek : k = n := by (clear hV hW hn hn1 hc hnl hb hK h; omega)
      rw [ek] at h; exact hK N h
end QWb
end T311_qw
section T312_qw
/-! warnings: Q's walk (316), signals; whole -/
section QWc
variable {d : Nat} {Kv : mm_ → Prop} {Qt : qt_} {V : vv_} {N N0 : mm_} {s x2 x3 : Int} {R : List (Int × Int)}
theorem or_x0 [Inhabited gh_] {x : Int} (h : x = 0 ∨ x = 1) : or_ x 0 = x ∧ or_ x 1 = 1 := by rcases h with e | e <;> rw [e] <;> decide
/-- routes -/
theorem l_381 [Inhabited gh_] (hV : Cl_ wd0 (Tr_ wd0 pg0 (d + 1)) V (rv_ Kv) Qt m_316) (hW : Wk_ V) {n : Nat} (hs : 0 ≤ s ∧ s < 20) (hn : N0 6 18 = n) (hn1 : n ≤ 10) (hm : ∀ r, 0 ≤ r → r < (n : Int) → 0 ≤ N0 164 r ∧ N0 164 r < 1048576) (h : WQF N0 N R) (hl : R.length + 2 < 400)
    (hK : ∀ N', WQF N0 N' (inA (ifP (SNT N0 s) [(2, N0 155 s)] ++ ifP (HRD N0 s) [(3, N0 155 s)]) R) → V 244 [rr 6, ii (s + 1), none, none, none, none] [] N') : ∀ (j : Nat) (k x2 x3 : Int), (n : Int) - k ≤ (j : Int) → 0 ≤ k → k ≤ n → (x2 = 0 ∨ x2 = 1) → (x3 = 0 ∨ x3 = 1) → (x2 = 1 ↔ ((∃ k, (0 ≤ k ∧ k < N0 6 75) ∧ N0 203 k = 2 ∧ N0 205 k = s) ∨ ∃ r, (0 ≤ r ∧ r < k) ∧ N0 160 r = -1 ∧ bt_ (N0 164 r) s)) → (x3 = 1 ↔ ((∃ k i, (0 ≤ k ∧ k < N0 6 62) ∧ N0 193 k = 0 ∧ (N0 198 k ≤ i ∧ i < N0 199 k) ∧ N0 200 i = s) ∨ ∃ r, (0 ≤ r ∧ r < k) ∧ N0 161 r = -1 ∧ bt_ (N0 164 r) s)) → V 381 [rr 6, ii s, ii x2, ii x3, ii k, none] [] N
  | j, k, x2, x3, hj, k0, kn, h2, h3, u2, u3 => by
    refine b_316_381 (Tr_mono _) hV hW _ _ _ _ _ ?_
    rw [h.2.1 18 (by decide), hn, h.1 160 (by decide), h.1 164 (by decide), h.1 155 (by decide)]
    by_cases c : k < (n : Int)
    · rw [if_pos c]
      have an := (an_sr (c := N0 164 k) (s := s) (hm k k0 c).1 (by have := hm k k0 c; (clear hV hW hs hn hn1 hm h hl hK hj k0 kn h2 h3 u2 u3 c; omega)) hs.1 (by (clear hV hW hn hn1 hm h hl hK hj k0 kn h2 h3 u2 u3 c; omega))).2
      have nxt : ∀ y2 y3, (y2 = 0 ∨ y2 = 1) → (y3 = 0 ∨ y3 = 1) → (y2 = 1 ↔ (x2 = 1 ∨ (N0 160 k = -1 ∧ bt_ (N0 164 k) s))) → (y3 = 1 ↔ (x3 = 1 ∨ (N0 161 k = -1 ∧ bt_ (N0 164 k) s))) → V 381 [rr 6, ii s, ii y2, ii y3, ii (k + 1), none] [] N := fun y2 y3 hy2 hy3 e2 e3 => by
        cases j with
        | zero => (clear hV hW hs hn hn1 hm h hl hK k0 kn h2 h3 u2 u3 an hy2 hy3 e2 e3; omega)
        | succ j =>
          refine l_381 hV hW hs hn hn1 hm h hl hK j (k + 1) y2 y3 (by omega) (by (clear hV hW hs hn hn1 hm h hl hK kn h2 h3 u2 u3 c an hy2 hy3 e2 e3 hj; omega)) (by (clear hV hW hs hn hn1 hm h hl hK k0 kn h2 h3 u2 u3 an hy2 hy3 e2 e3 hj; omega)) hy2 hy3 ?_ ?_
          · rw [e2, u2]
            constructor
            · rintro ((g | ⟨r, hr, g⟩) | g)
              · exact .inl g
              · exact .inr ⟨r, by (clear hV hW hs hn hn1 hm h hl hK k0 kn h2 h3 u2 u3 c an hy2 hy3 e2 e3 hj g; omega), g⟩
              · exact .inr ⟨k, by (clear hV hW hs hn hn1 hm h hl hK kn h2 h3 u2 u3 c an hy2 hy3 e2 e3 hj g; lia), g⟩
            · rintro (g | ⟨r, hr, g⟩)
              · exact .inl (.inl g)
              · by_cases cr : r = k
                · rw [cr] at g; exact .inr g
                · exact .inl (.inr ⟨r, by (clear hV hW hs hn hn1 hm h hl hK k0 kn h2 h3 u2 u3 c an hy2 hy3 e2 e3 hj g; lia), g⟩)
          · rw [e3, u3]
            constructor
            · rintro ((g | ⟨r, hr, g⟩) | g)
              · exact .inl g
              · exact .inr ⟨r, by omega, g⟩
              · exact .inr ⟨k, by omega, g⟩
            · rintro (g | ⟨r, hr, g⟩)
              · exact .inl (.inl g)
              · by_cases cr : r = k
                · rw [cr] at g; exact .inr g
                · exact .inl (.inr ⟨r, by omega, g⟩)
      have snd : ∀ y2, (y2 = 0 ∨ y2 = 1) → (y2 = 1 ↔ (x2 = 1 ∨ (N0 160 k = -1 ∧ bt_ (N0 164 k) s))) → V 424 [rr 6, ii s, ii y2, ii x3, ii k, none] [] N := fun y2 hy2 e2 => by
        refine b_316_424 (Tr_mono _) hV hW _ _ _ _ _ ⟨by (clear hV hW hs hn hm h hl hK hj kn h2 h3 u2 u3 an nxt hy2 e2; omega), ?_⟩
        rw [h.1 161 (by decide), h.1 164 (by decide), w32_id (x := k + 1) (by (clear hV hW hs hn hn1 hm h hl hK hj kn h2 h3 u2 u3 c an nxt hy2 e2; omega)) (by omega), (or_x0 h3).1, (or_x0 h3).2]
        by_cases c1 : N0 161 k = -1
        · rw [if_pos c1]
          refine ⟨by omega, ?_⟩
          by_cases ca : an_ (sr_ (N0 164 k) s) 1 = 1
          · rw [if_pos ca]; exact nxt y2 1 hy2 (.inr rfl) e2 ⟨fun _ => .inr ⟨c1, an.1 ca⟩, fun _ => rfl⟩
          · rw [if_neg ca]; exact nxt y2 x3 hy2 h3 e2 ⟨.inl, fun g => g.elim id fun g => absurd (an.2 g.2) ca⟩
        · rw [if_neg c1]; exact nxt y2 x3 hy2 h3 e2 ⟨.inl, fun g => g.elim id fun g => absurd g.1 c1⟩
      rw [(or_x0 h2).1, (or_x0 h2).2]
      refine ⟨by omega, ?_⟩
      by_cases c1 : N0 160 k = -1
      · rw [if_pos c1]
        refine ⟨by omega, ?_⟩
        by_cases ca : an_ (sr_ (N0 164 k) s) 1 = 1
        · rw [if_pos ca]; exact snd 1 (.inr rfl) ⟨fun _ => .inr ⟨c1, an.1 ca⟩, fun _ => rfl⟩
        · rw [if_neg ca]; exact snd x2 h2 ⟨.inl, fun g => g.elim id fun g => absurd (an.2 g.2) ca⟩
      · rw [if_neg c1]; exact snd x2 h2 ⟨.inl, fun g => g.elim id fun g => absurd g.1 c1⟩
    · rw [if_neg c, w32_id (x := s + 1) (by omega) (by omega)]
      have ek : k = n := by omega
      have U : x2 = 1 ↔ SNT N0 s := by unfold SNT; rw [hn, u2, ek]
      have W : x3 = 1 ↔ HRD N0 s := by unfold HRD; rw [hn, u3, ek]
      have hu := @ifP_len _ (SNT N0 s) (2, N0 155 s)
      have last : ∀ N1, WQF N0 N1 (inA (ifP (SNT N0 s) [(2, N0 155 s)]) R) → x3 ≠ 0 → V 244 [rr 6, ii (s + 1), none, none, none, none] [] N1 := fun N1 h1 h3' => hK N1 (by rw [inA_app, ifP_t (W.1 (h3.resolve_left h3') : HRD N0 s)]; exact h1)
      by_cases c2 : x2 = 0
      · rw [if_pos c2]
        refine ⟨hs, q_w1 (P := SNT N0 s) h (by (clear hV hW hs hn hn1 hm h hK hj k0 kn h2 h3 u2 u3 c ek U W hu last c2; omega)) (fun e => by have := U.2 e; omega) (fun N1 h1 _ => ?_)⟩
        rw [h1.1 155 (by decide)]
        by_cases c3 : x3 = 0
        · rw [if_pos c3]
          exact ⟨hs, q_w1 (P := HRD N0 s) h1 (by rw [inA_len]; omega) (fun e => by have := W.2 e; omega) (fun N2 h2 _ => hK N2 (by rw [inA_app]; exact h2))⟩
        · rw [if_neg c3]; exact last N1 h1 c3
      · rw [if_neg c2]
        have us : SNT N0 s := U.1 (h2.resolve_left c2)
        have h1 : WQF N0 N (inA (ifP (SNT N0 s) [(2, N0 155 s)]) R) := by rw [ifP_t us]; exact h
        by_cases c3 : x3 = 0
        · rw [if_pos c3]
          exact ⟨hs, q_w1 (P := HRD N0 s) h1 (by rw [inA_len]; (clear hV hW hs hn hn1 hm h hK hj k0 kn h2 h3 u2 u3 c ek U W last c2 us h1 c3; omega)) (fun e => by have := W.2 e; omega) (fun N2 h2 _ => hK N2 (by rw [inA_app]; exact h2))⟩
        · rw [if_neg c3]; exact last N h1 c3
/-- ins of a stim -/
theorem l_325 [Inhabited gh_] (hV : Cl_ wd0 (Tr_ wd0 pg0 (d + 1)) V (rv_ Kv) Qt m_316) (hW : Wk_ V) {k : Int} {P0 : Prop} (hk : 0 ≤ k ∧ k < 1300) (h : WQF N0 N R) (hi0 : 0 ≤ N0 198 k ∧ N0 199 k ≤ 1300)
    (hK : ∀ x3, (x3 = 0 ∨ x3 = 1) → (x3 = 1 ↔ (P0 ∨ (N0 193 k = 0 ∧ ∃ i, (N0 198 k ≤ i ∧ i < N0 199 k) ∧ N0 200 i = s))) → V 307 [rr 6, ii s, ii x2, ii x3, ii (k + 1), none] [] N) : ∀ (j : Nat) (i x3 : Int), N0 199 k - i ≤ (j : Int) → N0 198 k ≤ i → (x3 = 0 ∨ x3 = 1) → (x3 = 1 ↔ (P0 ∨ (N0 193 k = 0 ∧ ∃ q, (N0 198 k ≤ q ∧ q < i ∧ q < N0 199 k) ∧ N0 200 q = s))) → V 325 [rr 6, ii s, ii x2, ii x3, ii k, ii i] [] N
  | j, i, x3, hj, i0, h3, u3 => by
    refine b_316_325 (Tr_mono _) hV hW _ _ _ _ _ _ ⟨hk, ?_⟩
    rw [h.1 199 (by decide), h.1 193 (by decide), h.1 200 (by decide), (or_x0 h3).1, (or_x0 h3).2]
    by_cases c : i < N0 199 k
    · rw [if_pos c, w32_id (x := i + 1) (by (clear hV hW hk h hK hj h3 u3 c; omega)) (by (clear hV hW hk h hK hj i0 h3 u3; omega))]
      have nxt : ∀ y3, (y3 = 0 ∨ y3 = 1) → (y3 = 1 ↔ (x3 = 1 ∨ (N0 193 k = 0 ∧ N0 200 i = s))) → V 325 [rr 6, ii s, ii x2, ii y3, ii k, ii (i + 1)] [] N := fun y3 hy e => by
        cases j with
        | zero => omega
        | succ j =>
          refine l_325 hV hW hk h hi0 hK j (i + 1) y3 (by omega) (by (clear hV hW hk h hi0 hK h3 u3 c hy e hj; lia)) hy ?_
          rw [e, u3]
          constructor
          · rintro ((g | ⟨g1, q, hq, g2⟩) | ⟨g1, g2⟩)
            · exact .inl g
            · exact .inr ⟨g1, q, by (clear hV hW hk h hi0 hK i0 h3 u3 c hy e hj g1 g2; omega), g2⟩
            · exact .inr ⟨g1, i, by omega, g2⟩
          · rintro (g | ⟨g1, q, hq, g2⟩)
            · exact .inl (.inl g)
            · by_cases cq : q = i
              · rw [cq] at g2; exact .inr ⟨g1, g2⟩
              · exact .inl (.inr ⟨g1, q, by omega, g2⟩)
      refine ⟨hk, ?_⟩
      by_cases c1 : N0 193 k = 0
      · rw [if_pos c1]
        refine ⟨by omega, ?_⟩
        by_cases c2 : N0 200 i = s
        · rw [if_pos c2]; exact nxt 1 (.inr rfl) ⟨fun _ => .inr ⟨c1, c2⟩, fun _ => rfl⟩
        · rw [if_neg c2]; exact nxt x3 h3 ⟨.inl, fun g => g.elim id fun g => absurd g.2 c2⟩
      · rw [if_neg c1]; exact nxt x3 h3 ⟨.inl, fun g => g.elim id fun g => absurd g.1 c1⟩
    · rw [if_neg c, w32_id (x := k + 1) (by omega) (by omega)]
      refine hK x3 h3 (u3.trans ⟨fun g => g.imp id fun ⟨g1, q, hq, g2⟩ => ⟨g1, q, ⟨hq.1, hq.2.2⟩, g2⟩, fun g => g.imp id fun ⟨g1, q, hq, g2⟩ => ⟨g1, q, ⟨hq.1, by omega, hq.2⟩, g2⟩⟩)
/-- stims -/
theorem l_307 [Inhabited gh_] (hV : Cl_ wd0 (Tr_ wd0 pg0 (d + 1)) V (rv_ Kv) Qt m_316) (hW : Wk_ V) {n : Nat} (hn : N0 6 62 = n) (hn1 : n ≤ 1300) (h : WQF N0 N R) (hi0 : ∀ k, 0 ≤ k → k < (n : Int) → 0 ≤ N0 198 k ∧ N0 199 k ≤ 1300)
    (hK : ∀ x3, (x3 = 0 ∨ x3 = 1) → (x3 = 1 ↔ (∃ k i, (0 ≤ k ∧ k < N0 6 62) ∧ N0 193 k = 0 ∧ (N0 198 k ≤ i ∧ i < N0 199 k) ∧ N0 200 i = s)) → V 381 [rr 6, ii s, ii x2, ii x3, ii 0, none] [] N) : ∀ (j : Nat) (k x3 : Int), (n : Int) - k ≤ (j : Int) → 0 ≤ k → k ≤ n → (x3 = 0 ∨ x3 = 1) → (x3 = 1 ↔ (∃ q i, (0 ≤ q ∧ q < k) ∧ N0 193 q = 0 ∧ (N0 198 q ≤ i ∧ i < N0 199 q) ∧ N0 200 i = s)) → V 307 [rr 6, ii s, ii x2, ii x3, ii k, none] [] N
  | j, k, x3, hj, k0, kn, h3, u3 => by
    refine b_316_307 (Tr_mono _) hV hW _ _ _ _ _ ?_
    rw [h.2.1 62 (by decide), hn, h.1 198 (by decide)]
    by_cases c : k < (n : Int)
    · rw [if_pos c]
      have hi := hi0 k k0 c
      refine ⟨by (clear hV hW hn h hi0 hK hj kn h3 u3 hi; omega), l_325 (P0 := x3 = 1) hV hW ⟨k0, by omega⟩ h hi (fun y3 hy e => ?_) (N0 199 k - N0 198 k).toNat (N0 198 k) x3 (by omega) (Int.le_refl _) h3 ⟨.inl, fun g => g.elim id fun ⟨_, q, hq, _⟩ => by (clear hV hW hn hn1 h hi0 hK hj k0 kn h3 u3 c hi g hq; omega)⟩⟩
      cases j with
      | zero => omega
      | succ j =>
        refine l_307 hV hW hn hn1 h hi0 hK j (k + 1) y3 (by omega) (by omega) (by omega) hy ?_
        rw [e, u3]
        constructor
        · rintro (⟨q, i, hq, g⟩ | ⟨g1, i, hi, g2⟩)
          · exact ⟨q, i, by omega, g⟩
          · exact ⟨k, i, by omega, g1, hi, g2⟩
        · rintro ⟨q, i, hq, g1, hi, g2⟩
          by_cases cq : q = k
          · rw [cq] at g1 hi; exact .inr ⟨g1, i, hi, g2⟩
          · exact .inl ⟨q, i, by omega, g1, hi, g2⟩
    · rw [if_neg c]
      have ek : k = n := by omega
      refine hK x3 h3 ?_
      rw [hn, u3, ek]
/-- ops -/
theorem l_259 [Inhabited gh_] (hV : Cl_ wd0 (Tr_ wd0 pg0 (d + 1)) V (rv_ Kv) Qt m_316) (hW : Wk_ V) {n : Nat} (h : WQF N0 N R) (hn : N0 6 75 = n) (hn1 : n ≤ 1300)
    (hK : ∀ x2, (x2 = 0 ∨ x2 = 1) → (x2 = 1 ↔ (∃ k, (0 ≤ k ∧ k < N0 6 75) ∧ N0 203 k = 2 ∧ N0 205 k = s)) → V 307 [rr 6, ii s, ii x2, ii 0, ii 0, none] [] N) : ∀ (j : Nat) (k x2 : Int), (n : Int) - k ≤ (j : Int) → 0 ≤ k → k ≤ n → (x2 = 0 ∨ x2 = 1) → (x2 = 1 ↔ (∃ i, (0 ≤ i ∧ i < k) ∧ N0 203 i = 2 ∧ N0 205 i = s)) → V 259 [rr 6, ii s, ii x2, ii 0, ii k, none] [] N
  | j, k, x2, hj, k0, kn, h2, hb => by
    refine b_316_259 (Tr_mono _) hV hW _ _ _ _ _ ?_
    rw [h.2.1 75 (by decide), hn, h.1 203 (by decide), h.1 205 (by decide), (or_x0 h2).1, (or_x0 h2).2]
    by_cases c : k < (n : Int)
    · rw [if_pos c, w32_id (x := k + 1) (by (clear hV hW h hn hn1 hK hj kn h2 hb c; lia)) (by (clear hV hW h hn hK hj k0 kn h2 hb; omega))]
      have nxt : ∀ x, (x = 0 ∨ x = 1) → (x = 1 ↔ (x2 = 1 ∨ (N0 203 k = 2 ∧ N0 205 k = s))) → V 259 [rr 6, ii s, ii x, ii 0, ii (k + 1), none] [] N := fun x hx e => by
        cases j with
        | zero => omega
        | succ j =>
          refine l_259 hV hW h hn hn1 hK j (k + 1) x (by omega) (by omega) (by omega) hx ?_
          rw [e, hb]
          constructor
          · rintro (⟨i, hi, g⟩ | g)
            · exact ⟨i, by omega, g⟩
            · exact ⟨k, by omega, g⟩
          · rintro ⟨i, hi, g⟩
            by_cases ci : i = k
            · rw [ci] at g; exact .inr g
            · exact .inl ⟨i, by omega, g⟩
      refine ⟨by omega, ?_⟩
      by_cases c1 : N0 203 k = 2
      · rw [if_pos c1]
        refine ⟨by omega, ?_⟩
        by_cases c2 : N0 205 k = s
        · rw [if_pos c2]; exact nxt 1 (.inr rfl) ⟨fun _ => .inr ⟨c1, c2⟩, fun _ => rfl⟩
        · rw [if_neg c2]; exact nxt x2 h2 ⟨.inl, fun g => g.elim id fun g => absurd g.2 c2⟩
      · rw [if_neg c1]; exact nxt x2 h2 ⟨.inl, fun g => g.elim id fun g => absurd g.1 c1⟩
    · rw [if_neg c]
      have ek : k = n := by omega
      refine hK x2 h2 ?_
      rw [hn, hb, ek]
theorem l_244 [Inhabited gh_] (hV : Cl_ wd0 (Tr_ wd0 pg0 (d + 1)) V (rv_ Kv) Qt m_316) (hW : Wk_ V) {n nr nc ns : Nat} (hn : N0 6 17 = n) (hn1 : n ≤ 20) (hr : N0 6 18 = nr ∧ nr ≤ 10) (hc : N0 6 75 = nc ∧ nc ≤ 1300) (h62 : N0 6 62 = ns ∧ ns ≤ 1300) (hm : ∀ r, 0 ≤ r → r < (nr : Int) → 0 ≤ N0 164 r ∧ N0 164 r < 1048576) (hi0 : ∀ k, 0 ≤ k → k < (ns : Int) → 0 ≤ N0 198 k ∧ N0 199 k ≤ 1300) (hl : R.length ≤ 200)
    (hK : ∀ N', WQF N0 N' (inA (sgL9 N0 n) R) → Kv N') : ∀ (j k : Nat) (N : mm_), k + j = n → WQF N0 N (inA (sgL9 N0 k) R) → V 244 [rr 6, ii (k : Int), none, none, none, none] [] N
  | j, k, N, hj, h => by
    refine b_316_244 (Tr_mono _) hV hW _ _ ?_
    rw [h.2.1 17 (by decide), hn]
    by_cases c : (k : Int) < n
    · rw [if_pos c]
      cases j with
      | zero => omega
      | succ j =>
        have hlen : (sgL9 N0 k).length ≤ 2 * k := sgW_len (U := SNT N0) (W := HRD N0) (p := fun s => N0 155 s) k
        refine l_259 hV hW h hc.1 hc.2 (fun x2 hx2 u2 => ?_) nc 0 0 (by omega) (Int.le_refl _) (by omega) (.inl rfl) ⟨fun e => by omega, fun ⟨i, hi, _⟩ => by omega⟩
        refine l_307 hV hW h62.1 h62.2 h hi0 (fun x3 hx3 u3 => ?_) ns 0 0 (by omega) (Int.le_refl _) (by omega) (.inl rfl) ⟨fun e => by omega, fun ⟨q, i, hq, _⟩ => by omega⟩
        refine l_381 hV hW (by (clear hV hW hn hr hc h62 hm hi0 hl hK h hlen hx2 u2 hx3 u3; omega)) hr.1 hr.2 hm h (by rw [inA_len]; (clear hV hW hn hr hc h62 hm hi0 hK h hx2 u2 hx3 u3; lia)) (fun N1 h1 => ?_) nr 0 x2 x3 (by omega) (Int.le_refl _) (by omega) hx2 hx3 (u2.trans ⟨.inl, fun g => g.elim id fun ⟨r, hr, _⟩ => by omega⟩) (u3.trans ⟨.inl, fun g => g.elim id fun ⟨r, hr, _⟩ => by omega⟩)
        refine l_244 hV hW hn hn1 hr hc h62 hm hi0 hl hK j (k + 1) N1 (by (clear hV hW hn hn1 hr hc h62 hm hi0 hl hK h c hlen hx2 u2 hx3 u3 h1; omega)) ?_
        have ea : inA (sgL9 N0 (k + 1)) R = inA (ifP (SNT N0 k) [(2, N0 155 k)] ++ ifP (HRD N0 k) [(3, N0 155 k)]) (inA (sgL9 N0 k) R) := by
          show inA (sgW (SNT N0) (HRD N0) (fun s => N0 155 s) k ++ (ifP (SNT N0 k) [(2, N0 155 k)] ++ ifP (HRD N0 k) [(3, N0 155 k)])) R = _
          rw [inA_app]; rfl
        rw [ea]; exact h1
    · rw [if_neg c]
      have ek : k = n := by (clear hV hW hn hn1 hr hc h62 hm hi0 hl hK h; omega)
      rw [ek] at h; exact rv_i (hK N h)
theorem q_316 [Inhabited gh_] {n n2 nr nc nst nt : Nat} {ns nl : Int → Nat} (hn : N 6 17 = n) (hn1 : n ≤ 20) (h19 : N 6 19 = n2 ∧ n2 ≤ 6) (hr : N 6 18 = nr ∧ nr ≤ 10) (hc : N 6 75 = nc ∧ nc ≤ 1300) (h62 : N 6 62 = nst ∧ nst ≤ 1300) (hm : ∀ r, 0 ≤ r → r < (nr : Int) → 0 ≤ N 164 r ∧ N 164 r < 1048576) (hi0 : ∀ k, 0 ≤ k → k < (nst : Int) → 0 ≤ N 198 k ∧ N 199 k ≤ 1300)
    (hnl : ∀ T, 0 ≤ T → T < (n2 : Int) → (N 174 T = ns T ∧ ns T ≤ 12) ∧ (N 175 T = nl T ∧ nl T ≤ 10)) (hb : ∀ T, 0 ≤ T → T < (n2 : Int) → BTT N T nt)
    (hK : ∀ N', WQF N N' (inA (sgL9 N n) (inA (tyL N ns nl n2) [])) → Kv N') : Tr_ wd0 pg0 (d + 2) 316 [.inr (.inr 6)] N (rv_ Kv) Qt := by
  refine t_316 fun V hV hW => b_316_0 (Tr_mono _) hV hW _ ?_
  have W0 : WQF N (up_ N 6 120 0) (inA (tyL N ns nl 0) []) := ⟨fun k hk => up_ne (fun e => hk (by rw [e]; decide)), fun i hi => up_of2 hi, up_at, trivial⟩
  refine l_7 hV hW h19.1 h19.2 hc hnl hb (fun N' h' => ?_) n2 0 _ (by omega) W0
  have hlen : (tyL N ns nl n2).length ≤ 23 * n2 := tyW_len n2 (fun T hT => ⟨(hnl T (by (clear hn hn1 h19 hr hc h62 hm hi0 hnl hb hK hV hW W0 h' hT; lia)) (by omega)).1.2, (hnl T (by omega) (by omega)).2.2⟩)
  exact l_244 hV hW hn hn1 hr hc h62 hm hi0 (by rw [inA_len]; simp; (clear hn hn1 hr hc h62 hm hi0 hnl hb hK hV hW W0 h'; lia)) hK n 0 N' (by omega) h'
end QWc
end T312_qw
section T313_p1
/-! the start of pass 1 -/
section P1a
variable {M N : mm_}
theorem SYS_i [ig : Inhabited gh_] (hT : Tks M N) (h1 : M 1 2 = 5 ∧ M 1 3 = 0 ∧ M 1 4 = 0 ∧ M 1 6 = 0 ∧ M 1 8 = 0 ∧ M 1 31 = 0 ∧ M 1 32 = 0 ∧ M 1 33 = 0) (h5 : M 5 0 = 0 ∧ M 5 1 = 0 ∧ M 5 2 = 0 ∧ M 5 3 = 0 ∧ M 5 4 = 0) (h7 : 0 ≤ M 1 7 ∧ M 1 7 + 9608 ≤ 1000000000 - (gg_ : Int))
    (h6 : N 6 12 = 0 ∧ N 6 13 = 0 ∧ N 6 15 = 0 ∧ N 6 16 = 0 ∧ N 6 17 = 0 ∧ N 6 18 = 0 ∧ N 6 19 = 0 ∧ N 6 58 = 0) (h6' : N 6 62 = 0 ∧ N 6 63 = 0 ∧ N 6 75 = 0 ∧ N 6 76 = 0 ∧ N 6 90 = 0 ∧ N 6 104 = 0) : SYS 0 1000000 M N 0 0 0 0 := by
  obtain ⟨a2, a3, a4, a6, a8, a31, a32, a33⟩ := h1
  obtain ⟨b0, b1, b2, b3, b4⟩ := h5
  obtain ⟨c12, c13, c15, c16, c17, c18, c19, c58⟩ := h6
  obtain ⟨d62, d63, d75, d76, d90, d104⟩ := h6'
  have k1 : kk_ (M 1 4) (M 1 5) = 1000000 := by unfold kk_; rw [if_pos a4]
  have k2 : kk_ (N 6 13) (N 6 14) = 1000000 := by unfold kk_; rw [if_pos c13]
  have hE : ER 0 1000000 M N 0 0 := by
    refine ⟨⟨Int.le_refl _, by decide, fun j j0 j1 => by (clear hT h7 a2 a3 a4 a6 a8 a31 a32 a33 b0 b1 b2 b3 b4 c12 c13 c15 c16 c17 c18 c19 c58 d62 d63 d75 d76 d90 d104 k1 k2; omega)⟩, a3, c12, a6, c15, by decide, a8, c16, .inl rfl, fun _ => c13, ⟨?_, ?_, by rw [k1, k2]; decide, by decide, .inl c16⟩, h7.1, by omega, by omega, by omega⟩
    · rw [a4]; unfold vk_; omega
    · rw [c13]; unfold vk_; omega
  have nk : ∀ {k : Int}, 0 ≤ k → k < 0 → False := fun h h' => by omega
  refine ⟨⟨⟨hT, hE, a2⟩, ⟨⟨⟨?_, fun k k0 k1 => ?_⟩, fun k k0 k1 => ?_⟩, ⟨⟨?_, fun k k0 k1 => ?_⟩, ?_⟩, ⟨?_, fun k k0 k1 => ?_⟩, fun hb => by omega, ⟨?_, fun i i0 i1 => ?_, fun u v hu => ?_, fun k k0 k1 => ?_, fun u hu => ?_⟩⟩, fun T T0 T1 => ?_, ⟨fun i j i0 ij j1 => ?_, fun _ u hu => ?_⟩, ⟨⟨by (clear hT h7 a2 a3 a4 a6 a8 a31 a32 a33 b0 b1 b2 b3 b4 c12 c13 c15 c16 c17 c18 c19 c58 d62 d63 d76 d90 d104 k1 k2 hE nk; omega), by (clear hT h7 a2 a3 a4 a6 a8 a31 a32 a33 b0 b1 b2 b3 b4 c12 c13 c15 c16 c17 c18 c19 c58 d62 d63 d75 d76 d90 k1 k2 hE nk; omega), by (clear hT h7 a2 a3 a4 a6 a8 a31 a32 a33 b0 b1 b2 b4 c12 c13 c15 c16 c17 c18 c19 c58 d62 d63 d75 d76 d90 d104 k1 k2 hE nk; omega)⟩, by (clear hT h7 a2 a3 a4 a6 a8 a31 a32 a33 b0 b1 b2 b3 b4 c12 c13 c15 c16 c17 c18 c19 c58 d62 d63 d75 d90 d104 k1 k2 hE nk; lia), by omega, by (clear hT h7 a2 a3 a4 a6 a8 a31 a32 a33 b0 b1 b2 b3 b4 c12 c13 c15 c16 c17 c18 c19 c58 d62 d63 d75 d76 d104 k1 k2 hE nk; omega), ⟨fun hb => by omega, fun hb => by omega⟩, by (clear hT h7 a2 a3 a4 a6 a8 a31 a32 a33 b0 b1 b2 b3 c12 c13 c15 c16 c17 c18 c19 c58 d62 d63 d75 d76 d90 d104 k1 k2 hE nk; lia), by (clear hT h7 a2 a3 a4 a6 a8 a31 a32 a33 b0 b1 b2 b3 b4 c12 c13 c15 c16 c17 c18 c19 c58 d63 d75 d76 d90 d104 k1 k2 hE nk; omega), by (clear hT h7 a2 a3 a4 a6 a8 a31 a32 a33 b0 b1 b2 b3 b4 c12 c13 c15 c16 c17 c18 c19 c58 d62 d75 d76 d90 d104 k1 k2 hE nk; lia)⟩, fun hb => by omega⟩, ⟨⟨a31, a32, a33⟩, ⟨Int.le_refl _, Int.le_refl _, Int.le_refl _⟩, fun _ => ⟨b0, b1, b2⟩⟩, fun T T0 T1 => ?_⟩
  · rw [b0, c17]; decide
  · rw [b0] at k1; exact (nk k0 k1).elim
  · rw [b0] at k1; exact (nk k0 k1).elim
  · rw [b2, c19]; decide
  · rw [b2] at k1; exact (nk k0 k1).elim
  · exact ⟨fun k k0 k1 => by rw [b2] at k1; exact (nk k0 k1).elim, fun hb => by omega⟩
  · rw [b1, c18]; decide
  · rw [b1] at k1; exact (nk k0 k1).elim
  · rw [b0, b1, b2, c58]; decide
  · rw [c58] at i1; exact (nk i0 i1).elim
  · exfalso
    unfold GLM at hu
    rw [b0, b1, b2] at hu
    rcases hu with ⟨k, hk, _⟩ | ⟨k, hk, _⟩ | ⟨k, hk, _⟩ <;> omega
  · rw [b0] at k1; exact (nk k0 k1).elim
  · exfalso
    unfold GLM at hu
    rw [b0, b1, b2] at hu
    rcases hu with ⟨k, hk, _⟩ | ⟨k, hk, _⟩ | ⟨k, hk, _⟩ <;> omega
  · rw [b2] at T1; exact (nk T0 T1).elim
  · rw [b2] at j1; (clear hT h7 a2 a3 a4 a6 a8 a31 a32 a33 b0 b1 b2 b3 b4 c12 c13 c15 c16 c17 c18 c19 c58 d62 d63 d75 d76 d90 d104 k1 k2 hE nk; omega)
  · exfalso
    unfold GLM at hu
    rw [b0, b1, b2] at hu
    rcases hu with ⟨k, hk, _⟩ | ⟨k, hk, _⟩ | ⟨k, hk, _⟩ <;> omega
  · rw [b2] at T1; exact (nk T0 T1).elim
end P1a
end T313_p1
section T314_p2
/-! the start of pass 2 -/
/-- X's memory behind the filling, with the resets of pass 2 -/
def P2X (M M2 : mm_) (nr : Int) : Prop := ((∀ k : Nat, k ∉ [1, 114, 115, 116, 117, 118, 119] → M2 k = M k) ∧ (M2 1 2 = 5 ∧ M2 1 3 = 0 ∧ M2 1 4 = M 1 4 ∧ M2 1 5 = M 1 5 ∧ M2 1 6 = 0 ∧ M2 1 7 = M 1 7 ∧ M2 1 8 = 1) ∧ (M2 1 31 = 0 ∧ M2 1 32 = 0 ∧ M2 1 33 = 0) ∧ M2 1 21 = 0 ∧ M2 1 22 = 0 ∧ M2 1 23 = 0)
/-- Q's memory behind resolve, with the resets of pass 2 -/
def P2Q (N N2 : mm_) : Prop := (∀ k : Nat, k ∉ [6, 160, 161, 164] → N2 k = N k) ∧ (∀ i : Int, i ∈ [13, 14, 17, 18, 19, 58] → N2 6 i = N 6 i) ∧ (N2 6 12 = 0 ∧ N2 6 15 = 0 ∧ N2 6 16 = 1 ∧ N2 6 62 = 0 ∧ N2 6 63 = 0 ∧ N2 6 75 = 0 ∧ N2 6 76 = 0 ∧ N2 6 90 = 0 ∧ N2 6 104 = 0)
section P2a
variable {F a ns nr np : Int} {M N M2 N2 : mm_}
theorem sgl_20 [Inhabited gh_] (h : sgl9 M N) (v : Int) : sgl N v = -1 ∨ (0 ≤ sgl N v ∧ sgl N v < 20) := by
  have c0 := h.1
  unfold sgl
  rcases fi_r (fun i => N 152 i) v (N 6 17).toNat 0 with e | e
  · exact .inl e
  · right; omega
theorem lsv_b [Inhabited gh_] (h : sgl9 M N) : ∀ (m : Nat) (a w : Int), (0 ≤ w ∧ w < 1048576) → 0 ≤ lsv N m a w ∧ lsv N m a w < 1048576
  | 0, _, _, hw => hw
  | m + 1, a, w, hw => by
    unfold lsv
    refine lsv_b h m (a + 2) _ ?_
    unfold lsb
    by_cases c : sgl N (N 151 a) = -1
    · rw [if_pos c]; exact hw
    · rw [if_neg c]
      rcases sgl_20 h (N 151 a) with e | e
      · exact absurd e c
      · exact (or_bt (m := 20) (by decide) hw.1 hw.2 e.1 e.2).1
/-- a route's rows, resolved -/
theorem RT_res [Inhabited gh_] {r : Int} (hT : Tks M N) (h : RRW M N r) (hg : sgl9 M N) (h70 : M2 70 = M 70) (hX : RTX M2 N r (M 55 r)) (h158 : N2 158 = N 158) (h159 : N2 159 = N 159) (htp : tpl N2 = tpl N) (m : Nat) (hm : LST (M 70) m (dle (M 70) (M 55 r + 5) + 1)) (h164 : N2 164 r = lsv N m (N 165 r) 0) :
    M2 114 (2 * r) = (if N2 158 r = 0 then -2 else tpl N2 (N2 158 r)) ∧ M2 114 (2 * r + 1) = (if N2 159 r = 0 then -2 else tpl N2 (N2 159 r)) ∧ M2 119 r = N2 164 r ∧ 0 ≤ N2 164 r ∧ N2 164 r < 1048576 := by
  obtain ⟨⟨g0, k0, k1⟩, ⟨m', hm'⟩, ⟨q1, q2⟩, _, q5⟩ := h
  obtain ⟨⟨x1, x2⟩, _, x3⟩ := hX
  obtain ⟨ho, o1, ⟨k2, h13⟩, o3, _⟩ := hm'
  generalize M 55 r = a at *
  have g1 := gd_s g0 (by omega) (by rw [k0]; decide)
  have g2 := gd_s g1 ho.2 (by rw [ho.1]; decide)
  have g3 := gd_s g2 (by omega) (by rcases o1.1 with e | e <;> (rw [show a + 1 + 1 = a + 2 by omega, e]; decide))
  have g4 := gd_s g3 (by omega) (by rw [show a + 1 + 1 + 1 = a + 3 by omega, k2]; decide)
  rw [show a + 1 + 1 = a + 2 by omega] at g2
  rw [show a + 1 + 1 + 1 + 1 = a + 4 by omega] at g4
  have side : ∀ t, gd_ M t → sdO (M 70) t → ∀ v, v = sdq M N t → sdv M2 N t = (if v = 0 then -2 else tpl N v) := fun t gt ot v hv => by
    unfold sdv
    rw [h70, hv]
    unfold sdq
    by_cases c : M 70 t = 25
    · rw [if_pos c, if_pos c, if_pos rfl]
    · rw [if_neg c, if_neg c]
      have k : M 70 t = 100 := by rcases ot.1 with e | e <;> omega
      have p := ((hT t gt).2.2.2.2.2.1 k).2
      rw [if_neg (by (clear hT hg h70 h158 h159 htp h164 hm g0 k0 k1 q1 q2 q5 x1 x2 x3 ho o1 k2 h13 o3 g1 g2 g3 g4 gt ot hv c k; omega))]
  refine ⟨?_, ?_, ?_, ?_⟩
  · rw [h158, htp, x1]; exact side _ g2 o1 _ q1
  · rw [h159, htp, x2]; exact side _ g4 o3 _ q2
  · rw [h164, q5]
    have := x3 m (by rw [h70]; exact hm)
    rw [h70] at this; exact this
  · rw [h164]; exact lsv_b hg m _ 0 (by decide)
end P2a
section P2b
variable {F a ns nr np : Int} {M N M2 N2 : mm_}
theorem SYS_2 (i1 i2 : Inhabited gh_) (h : @SYS i1 0 F M N a ns nr np) (hx : P2X M M2 nr) (hq : P2Q N N2) (h5 : M 5 3 = 0 ∧ M 5 4 = 0) (h122 : ∀ T, 0 ≤ T → T < np → M 122 T = N 170 T ∧ N 170 T ≤ M 124 T) (hr : RT1 M2 N2) (h7 : M 1 7 + 9608 ≤ 1000000000 - ((@gg_ i2 : Nat) : Int)) (hbb : 1000000 ≤ @bb_ i2 (M2 1 19)) : @SYS i2 1 F M2 N2 0 0 0 0 := by
  obtain ⟨x, ⟨a2, a3, a4, a5, a6, a7, a8⟩, ⟨a31, a32, a33⟩, a21, a22, a23⟩ := hx
  obtain ⟨q, q6, c12, c15, c16, d62, d63, d75, d76, d90, d104⟩ := hq
  obtain ⟨⟨⟨s1, s2, s3⟩, ⟨g1, g2, g3, g4, g5⟩, ty, ⟨tp, gl⟩, _, _⟩, ⟨_, _, d4⟩, cnt⟩ := h
  obtain ⟨d50, d51, d52⟩ := d4 rfl
  obtain ⟨_, _, _, _, _, _, _, _, _, b13, nr', b7, _⟩ := s2
  have c13 := b13 rfl
  have e5 := x 5 (by decide)
  have e70 := x 70 (by decide)
  have e71 := x 71 (by decide)
  have e151 := q 151 (by decide)
  have nm : ∀ u, nm9_ M u → nm9_ M2 u := fun u hu => nm9_r hu e70
  have glm : ∀ u, GLM M2 u ↔ GLM M u := fun u => by
    unfold GLM
    rw [e5, x 56 (by decide), x 57 (by decide), x 58 (by decide)]
  obtain ⟨⟨p1, p1'⟩, p2⟩ := g1
  obtain ⟨⟨p3, p3'⟩, p4, _⟩ := g2
  obtain ⟨p6, p6'⟩ := g3
  obtain ⟨u1, u3, u4, u5⟩ := g5
  have hTk : Tks M2 N2 := Tks_r s1 (fun r hr => x r (fun e => by simp only [List.mem_cons, List.not_mem_nil, or_false] at hr e; (clear h5 h122 h7 hbb x a2 a3 a4 a5 a6 a7 a8 a31 a32 a33 a21 a22 a23 q q6 c12 c15 c16 d62 d63 d75 d76 d90 d104 s1 s3 g4 ty tp gl cnt d4 d50 d51 d52 b13 nr' b7 c13 e5 e70 e71 e151 nm glm p2 p1 p1' p3 p3' p4 p6 p6' u1 u3 u4 u5; omega))) (fun r hr => q r (fun e => by simp only [List.mem_cons, List.not_mem_nil, or_false] at hr e; (clear h5 h122 h7 hbb x a2 a3 a4 a5 a6 a7 a8 a31 a32 a33 a21 a22 a23 q q6 c12 c15 c16 d62 d63 d75 d76 d90 d104 s1 s3 g4 ty tp gl cnt d4 d50 d51 d52 b13 nr' b7 c13 e5 e70 e71 e151 nm glm p2 p1 p1' p3 p3' p4 p6 p6' u1 u3 u4 u5; omega)))
  have hE : ER 1 F M2 N2 0 0 := ⟨⟨Int.le_refl _, by decide, fun j j0 j1 => by (clear h5 h122 hr h7 hbb x a2 a3 a4 a5 a6 a7 a8 a31 a32 a33 a21 a22 a23 q q6 c12 c15 c16 d62 d63 d75 d76 d90 d104 s1 s3 g4 ty tp gl cnt d4 d50 d51 d52 b13 nr' b7 c13 e5 e70 e71 e151 nm glm p2 p1 p1' p3 p3' p4 p6 p6' u1 u3 u4 u5 hTk; omega)⟩, a3, c12, a6, c15, by decide, a8, c16, .inr rfl, fun hb => by omega, by unfold NR; rw [a4, a5, q6 13 (by decide), q6 14 (by decide)]; exact ⟨nr'.1, nr'.2.1, nr'.2.2.1, nr'.2.2.2.1, .inr (by rw [show kk_ (N 6 13) (N 6 14) = 1000000 by unfold kk_; rw [if_pos c13]]; exact hbb)⟩, by rw [a7]; exact b7, by rw [a7]; omega, by rw [e5]; omega, by rw [e5]; omega⟩
  have row : ∀ T, ROW M N M2 N2 T := fun T => ROW_e (fun r hr => x r (fun e => by revert hr e; unfold rwX; simp only [List.mem_cons, List.not_mem_nil, or_false]; (clear h5 h122 hr h7 hbb x a2 a3 a4 a5 a6 a7 a8 a31 a32 a33 a21 a22 a23 q q6 c12 c15 c16 d62 d63 d75 d76 d90 d104 s1 s3 g4 ty tp gl cnt d4 d50 d51 d52 b13 nr' b7 c13 e5 e70 e71 e151 nm glm p2 p1 p1' p3 p3' p4 p6 p6' u1 u3 u4 u5 hTk hE; omega))) (fun r hr => q r (fun e => by revert hr e; unfold rwQ; simp only [List.mem_cons, List.not_mem_nil, or_false]; (clear h5 h122 hr h7 hbb x a2 a3 a4 a5 a6 a7 a8 a31 a32 a33 a21 a22 a23 q q6 c12 c15 c16 d62 d63 d75 d76 d90 d104 s1 s3 g4 ty tp gl cnt d4 d50 d51 d52 b13 nr' b7 c13 e5 e70 e71 e151 nm glm p2 p1 p1' p3 p3' p4 p6 p6' u1 u3 u4 u5 hTk hE; omega)))
  refine ⟨⟨⟨hTk, hE, a2⟩, ⟨?_, ?_, ?_, fun _ => hr, ?_⟩, fun T T0 T1 => ?_, ⟨by rw [e5, x 58 (by decide)]; exact tp, fun hb => by (clear h5 h122 hr h7 hbb x a2 a3 a4 a5 a6 a7 a8 a31 a32 a33 a21 a22 a23 q q6 c12 c15 c16 d62 d63 d75 d76 d90 d104 s1 s3 g4 ty tp gl cnt d4 d50 d51 d52 b13 nr' b7 c13 e5 e70 e71 e151 nm glm p2 p1 p1' p3 p3' p4 p6 p6' u1 u3 u4 u5 hTk hE row; omega)⟩, ⟨⟨by (clear h5 h122 hr h7 hbb x a2 a3 a4 a5 a6 a7 a8 a31 a32 a33 a21 a22 a23 q q6 c12 c15 c16 d62 d63 d76 d90 d104 s1 s3 g4 ty tp gl cnt d4 d50 d51 d52 b13 nr' b7 c13 e5 e70 e71 e151 nm glm p2 p1 p1' p3 p3' p4 p6 p6' u1 u3 u4 u5 hTk hE row; omega), by (clear h5 h122 hr h7 hbb x a2 a3 a4 a5 a6 a7 a8 a31 a32 a33 a21 a22 a23 q q6 c12 c15 c16 d62 d63 d75 d76 d90 s1 s3 g4 ty tp gl cnt d4 d50 d51 d52 b13 nr' b7 c13 e5 e70 e71 e151 nm glm p2 p1 p1' p3 p3' p4 p6 p6' u1 u3 u4 u5 hTk hE row; omega), by rw [e5]; (clear h122 hr h7 hbb x a2 a3 a4 a5 a6 a7 a8 a31 a32 a33 a21 a22 a23 q q6 c12 c15 c16 d62 d63 d75 d76 d90 d104 s1 s3 g4 ty tp gl cnt d4 d50 d51 d52 b13 nr' b7 c13 e5 e70 e71 e151 nm glm p2 p1 p1' p3 p3' p4 p6 p6' u1 u3 u4 u5 hTk hE row; omega)⟩, by (clear h5 h122 hr h7 hbb x a2 a3 a4 a5 a6 a7 a8 a31 a32 a33 a21 a22 a23 q q6 c12 c15 c16 d62 d63 d75 d90 d104 s1 s3 g4 ty tp gl cnt d4 d50 d51 d52 b13 nr' b7 c13 e5 e70 e71 e151 nm glm p2 p1 p1' p3 p3' p4 p6 p6' u1 u3 u4 u5 hTk hE row; omega), by rw [a7]; (clear h5 h122 hr hbb x a2 a3 a4 a5 a6 a8 a31 a32 a33 a21 a22 a23 q q6 c12 c15 c16 d62 d63 d75 d76 d90 d104 s1 s3 g4 ty tp gl cnt d4 d50 d51 d52 b13 nr' b7 c13 e5 e70 e71 e151 nm glm p2 p1 p1' p3 p3' p4 p6 p6' u1 u3 u4 u5 hTk hE row; omega), by (clear h5 h122 hr h7 hbb x a2 a3 a4 a5 a6 a7 a8 a31 a32 a33 a21 a22 a23 q q6 c12 c15 c16 d62 d63 d75 d76 d104 s1 s3 g4 ty tp gl cnt d4 d50 d51 d52 b13 nr' b7 c13 e5 e70 e71 e151 nm glm p2 p1 p1' p3 p3' p4 p6 p6' u1 u3 u4 u5 hTk hE row; omega), by rw [a21, a23]; decide, by rw [e5]; omega, by omega, by (clear h5 h122 hr h7 hbb x a2 a3 a4 a5 a6 a7 a8 a31 a32 a33 a21 a22 a23 q q6 c12 c15 c16 d62 d75 d76 d90 d104 s1 s3 g4 ty tp gl cnt d4 d50 d51 d52 b13 nr' b7 c13 e5 e70 e71 e151 nm glm p2 p1 p1' p3 p3' p4 p6 p6' u1 u3 u4 u5 hTk hE row; omega)⟩, fun _ => ⟨⟨fun _ => 0, ⟨by (clear h5 h122 hr h7 hbb x a2 a3 a4 a5 a6 a7 a8 a31 a32 a33 a21 a22 a23 q q6 c12 c15 c16 d63 d75 d76 d90 d104 s1 s3 g4 ty tp gl cnt d4 d50 d51 d52 b13 nr' b7 c13 e5 e70 e71 e151 nm glm p2 p1 p1' p3 p3' p4 p6 p6' u1 u3 u4 u5 hTk hE row; omega), rfl, by rw [e5]; exact h5.2.symm⟩, fun k k0 k1 => by (clear h5 h122 hr h7 hbb x a2 a3 a4 a5 a6 a7 a8 a31 a32 a33 a21 a22 a23 q q6 c12 c15 c16 d63 d75 d76 d90 d104 s1 s3 g4 ty tp gl cnt d4 d50 d51 d52 b13 nr' b7 c13 e5 e70 e71 e151 nm glm p2 p1 p1' p3 p3' p4 p6 p6' u1 u3 u4 u5 hTk hE row; omega)⟩, fun h => by (clear h5 h122 hr h7 hbb x a2 a3 a4 a5 a6 a7 a8 a31 a32 a33 a21 a22 a23 q q6 c12 c15 c16 d63 d75 d76 d90 d104 s1 s3 g4 ty tp gl cnt d4 d50 d51 d52 b13 nr' b7 c13 e5 e70 e71 e151 nm glm p2 p1 p1' p3 p3' p4 p6 p6' u1 u3 u4 u5 hTk hE row; omega)⟩⟩, ⟨⟨a31, a32, a33⟩, ⟨Int.le_refl _, Int.le_refl _, Int.le_refl _⟩, fun hb => by omega⟩, fun T T0 T1 => ?_⟩
  · unfold SGT sgl9
    rw [e5, q6 17 (by decide), x 56 (by decide), q 152 (by decide), e151, x 112 (by decide), x 113 (by decide), q 156 (by decide), q 157 (by decide)]
    exact ⟨⟨p1, fun k k0 k1 => ⟨nm _ (p1' k k0 k1).1, (p1' k k0 k1).2⟩⟩, p2⟩
  · unfold PRT tpl9
    rw [e5, q6 19 (by decide), x 58 (by decide), q 154 (by decide), e151, q 170 (by decide), q 182 (by decide), q 183 (by decide), x 122 (by decide), x 130 (by decide)]
    refine ⟨⟨p3, fun k k0 k1 => ⟨nm _ (p3' k k0 k1).1, (p3' k k0 k1).2⟩⟩, p4, fun _ k k0 k1 => ⟨(h122 k k0 (by (clear h5 h122 hr h7 hbb x a2 a3 a4 a5 a6 a7 a8 a31 a32 a33 a21 a22 a23 q q6 c12 c15 c16 d62 d63 d75 d76 d90 d104 s1 s3 g4 ty tp gl cnt d4 d50 d51 b13 nr' b7 c13 e5 e70 e71 e151 nm glm p2 p1 p1' p3' p4 p6 p6' u1 u3 u4 u5 hTk hE row k0; omega))).1, fun i i0 i1 => ?_⟩⟩
    exact ((ty k k0 k1).1.2.2.1 i i0 (by have := (h122 k k0 (by (clear h5 h122 hr h7 hbb x a2 a3 a4 a5 a6 a7 a8 a31 a32 a33 a21 a22 a23 q q6 c12 c15 c16 d62 d63 d75 d76 d90 d104 s1 s3 g4 ty tp gl cnt d4 d50 d51 b13 nr' b7 c13 e5 e70 e71 e151 nm glm p2 p1 p1' p3' p4 p6 p6' u1 u3 u4 u5 hTk hE row k0 i0 i1; omega))).2; (clear h5 h122 hr h7 hbb x a2 a3 a4 a5 a6 a7 a8 a31 a32 a33 a21 a22 a23 q q6 c12 c15 c16 d62 d63 d75 d76 d90 d104 s1 s3 g4 ty tp gl cnt d4 d50 d51 d52 b13 nr' b7 c13 e5 e70 e71 e151 nm glm p2 p1 p1' p3 p3' p4 p6 p6' u1 u3 u4 u5 hTk hE row k0 k1 i0; omega))).2.2.1
  · unfold rtl9
    rw [e5, q6 18 (by decide), x 57 (by decide), q 153 (by decide), e151]
    exact ⟨p6, fun k k0 k1 => ⟨nm _ (p6' k k0 k1).1, (p6' k k0 k1).2⟩⟩
  · unfold GLT
    rw [q6 58 (by decide), e5, q 190 (by decide), q 191 (by decide), e151, e71, q 155 (by decide), x 56 (by decide)]
    refine ⟨u1, fun i i0 i1 => ?_, fun u v hu hv => u4 u v ((glm u).1 hu) ((glm v).1 hv), u5.1, fun u hu => u5.2 u ((glm u).1 hu)⟩
    obtain ⟨u, hu, w⟩ := u3 i i0 i1
    exact ⟨u, ⟨nm _ hu.1, (glm u).2 hu.2⟩, w⟩
  · rw [e5] at T1
    obtain ⟨t1, t2, t3, t4, ⟨t5, t5'⟩, t6⟩ := ty T T0 T1
    have t : TYP 1 F M N 0 T := ⟨t1, t2, t3, t4, ⟨t5, fun k k0 k1 => ⟨(t5' k k0 k1).1, fun hb => by omega, (t5' k k0 k1).2.2⟩⟩, t6⟩
    exact TYP_c t (row T) e70 e71 e151 (Int.le_refl _) (Int.le_refl _)
  · rw [e5] at T1
    exact CNT_c (cnt T T0 T1) (row T)
end P2b
end T314_p2
section T315_pr
/-! reads (X 101) | parse (Q 218): resets, tokens, pass 1 -/
/-- X's resets at the start -/
def rX0 (M : mm_) : mm_ := up_ (up_ (up_ (up_ (up_ (up_ (up_ (up_ (up_ (up_ M 1 2 5) 5 0 0) 5 1 0) 5 2 0) 5 3 0) 5 4 0) 5 36 0) 1 4 0) 1 5 ((-1))) 1 9 0
def rX1 (M : mm_) : mm_ := up_ (up_ (up_ (up_ (up_ M 1 3 0) 1 6 0) 1 31 0) 1 32 0) 1 33 0
def rQ0 (N : mm_) : mm_ := up_ (up_ (up_ (up_ (up_ (up_ N 6 17 0) 6 18 0) 6 19 0) 6 58 0) 6 13 0) 6 16 0
def rQ1 (N : mm_) : mm_ := up_ (up_ (up_ (up_ (up_ (up_ (up_ (up_ N 6 12 0) 6 15 0) 6 75 0) 6 104 0) 6 62 0) 6 63 0) 6 90 0) 6 76 0
/-- Q behind pass 1 -/
def qRS (dq : Nat) (N : mm_) (G : Int → mm_ → Prop) (Qt : qt_) : Prop := (if N 6 13 ≤ 0 then
    Tr_ wd0 pg0 (dq + 20) 315 [.inr (.inr 6)] N (rv_ fun M3 =>
     bl_ 1 ∧ Tr_ wd0 pg0 (dq + 20) 226 [.inr (.inr 6)] (up_ M3 6 16 1) (rv_ fun M4 =>
      bl_ 0 ∧ (if M4 6 13 = 0 then
       bl_ 1 ∧ ri_ G [.inl 1] (up_ M4 6 16 0)
      else
       bl_ 0 ∧ ri_ G [.inl 0] (up_ M4 6 16 0))) Qt) Qt
   else
    bl_ 0 ∧ ri_ G [.inl 0] N)
section PRa
variable {dq : Nat} {G : Int → mm_ → Prop} {Qt Qtq : qt_} {M N N1 : mm_}
theorem rX0_r [Inhabited gh_] {k : Nat} (h1 : k ≠ 1) (h5 : k ≠ 5) : rX0 M k = M k := by
  unfold rX0; rw [up_ne h1, up_ne h1, up_ne h1, up_ne h5, up_ne h5, up_ne h5, up_ne h5, up_ne h5, up_ne h5, up_ne h1]
theorem rX0_1 [Inhabited gh_] {i : Int} (h : i ∉ [2, 4, 5, 9]) : rX0 M 1 i = M 1 i := by
  unfold rX0; rw [up_of2 (nm_i h (by decide)), up_of2 (nm_i h (by decide)), up_of2 (nm_i h (by decide)), up_ne (by decide), up_ne (by decide), up_ne (by decide), up_ne (by decide), up_ne (by decide), up_ne (by decide), up_of2 (nm_i h (by decide))]
theorem rX0_k [Inhabited gh_] : (rX0 M 1 2 = 5 ∧ rX0 M 1 4 = 0 ∧ rX0 M 1 5 = -1 ∧ rX0 M 1 9 = 0) ∧ rX0 M 5 0 = 0 ∧ rX0 M 5 1 = 0 ∧ rX0 M 5 2 = 0 ∧ rX0 M 5 3 = 0 ∧ rX0 M 5 4 = 0 ∧ rX0 M 5 36 = 0 := by
  refine ⟨⟨?_, ?_, ?_, ?_⟩, ?_, ?_, ?_, ?_, ?_, ?_⟩ <;> unfold rX0 up_ <;> simp
theorem rX1_r [Inhabited gh_] {k : Nat} (h1 : k ≠ 1) : rX1 M k = M k := by
  unfold rX1; rw [up_ne h1, up_ne h1, up_ne h1, up_ne h1, up_ne h1]
theorem rX1_1 [Inhabited gh_] {i : Int} (h : i ∉ [3, 6, 31, 32, 33]) : rX1 M 1 i = M 1 i := by
  unfold rX1; rw [up_of2 (nm_i h (by decide)), up_of2 (nm_i h (by decide)), up_of2 (nm_i h (by decide)), up_of2 (nm_i h (by decide)), up_of2 (nm_i h (by decide))]
theorem rX1_k [Inhabited gh_] : rX1 M 1 3 = 0 ∧ rX1 M 1 6 = 0 ∧ rX1 M 1 31 = 0 ∧ rX1 M 1 32 = 0 ∧ rX1 M 1 33 = 0 := by
  refine ⟨?_, ?_, ?_, ?_, ?_⟩ <;> unfold rX1 up_ <;> simp
theorem rQ0_r [Inhabited gh_] {k : Nat} (h1 : k ≠ 6) : rQ0 N k = N k := by
  unfold rQ0; rw [up_ne h1, up_ne h1, up_ne h1, up_ne h1, up_ne h1, up_ne h1]
theorem rQ0_6 [Inhabited gh_] {i : Int} (h : i ∉ [13, 16, 17, 18, 19, 58]) : rQ0 N 6 i = N 6 i := by
  unfold rQ0; rw [up_of2 (nm_i h (by decide)), up_of2 (nm_i h (by decide)), up_of2 (nm_i h (by decide)), up_of2 (nm_i h (by decide)), up_of2 (nm_i h (by decide)), up_of2 (nm_i h (by decide))]
theorem rQ0_k [Inhabited gh_] : rQ0 N 6 13 = 0 ∧ rQ0 N 6 16 = 0 ∧ rQ0 N 6 17 = 0 ∧ rQ0 N 6 18 = 0 ∧ rQ0 N 6 19 = 0 ∧ rQ0 N 6 58 = 0 := by
  refine ⟨?_, ?_, ?_, ?_, ?_, ?_⟩ <;> unfold rQ0 up_ <;> simp
theorem rQ1_r [Inhabited gh_] {k : Nat} (h1 : k ≠ 6) : rQ1 N k = N k := by
  unfold rQ1; rw [up_ne h1, up_ne h1, up_ne h1, up_ne h1, up_ne h1, up_ne h1, up_ne h1, up_ne h1]
theorem rQ1_6 [Inhabited gh_] {i : Int} (h : i ∉ [12, 15, 62, 63, 75, 76, 90, 104]) : rQ1 N 6 i = N 6 i := by
  unfold rQ1; rw [up_of2 (nm_i h (by decide)), up_of2 (nm_i h (by decide)), up_of2 (nm_i h (by decide)), up_of2 (nm_i h (by decide)), up_of2 (nm_i h (by decide)), up_of2 (nm_i h (by decide)), up_of2 (nm_i h (by decide)), up_of2 (nm_i h (by decide))]
theorem rQ1_k [Inhabited gh_] : (rQ1 N 6 12 = 0 ∧ rQ1 N 6 15 = 0) ∧ rQ1 N 6 62 = 0 ∧ rQ1 N 6 63 = 0 ∧ rQ1 N 6 75 = 0 ∧ rQ1 N 6 76 = 0 ∧ rQ1 N 6 90 = 0 ∧ rQ1 N 6 104 = 0 := by
  refine ⟨⟨?_, ?_⟩, ?_, ?_, ?_, ?_, ?_, ?_⟩ <;> unfold rQ1 up_ <;> simp
/-- Q's 226 from its start -/
theorem q_226 [Inhabited gh_] {Kv : mm_ → Prop} (hg : go_ (rQ1 N)) (h : q73 dq 0 0 1 (rQ1 N) Kv Qt) : Tr_ wd0 pg0 (dq + 20) 226 [.inr (.inr 6)] N (rv_ Kv) Qt := by
  refine t_226 fun V hV hW => b_226_0 (Tr_mono _) hV hW _ (b_226_49 (Tr_mono _) hV hW _ _ _ _ _ (q_227g hg ?_))
  rw [if_pos rfl, if_neg (by decide)]
  exact h V hV hW
/-- Q's parse up to pass 1, its tokens as one memory -/
theorem q_218 [Inhabited gh_] (hn0 : 0 ≤ N 6 4) (hn : N 6 4 ≤ 5000) (hw : Wd_ N) (hb : ∀ i, 0 ≤ i → i < 5000 → -128 ≤ N 146 i ∧ N 146 i ≤ 127) :
    ∃ (N1 : mm_) (m : Nat), (Fr_ [6, 149, 150, 151] (rQ0 N) N1 ∧ (∀ j, j ≠ 11 → N1 6 j = rQ0 N 6 j) ∧ QT_ N1 (N 146) (N 6 4) m) ∧ ∀ (G : Int → mm_ → Prop) (Qtq : qt_), q73 dq 0 0 1 (rQ1 N1) (fun N' => qRS dq N' G Qtq) Qtq → Tr_ wd0 pg0 (dq + 21) 218 [.inr (.inr 6)] N (ri_ G) Qtq := by
  have e146 : rQ0 N 146 = N 146 := rQ0_r (by decide)
  have e4 : rQ0 N 6 4 = N 6 4 := rQ0_6 (by decide)
  obtain ⟨N1, m, ⟨f1, f2, f3⟩, hr⟩ := s_219e (M := rQ0 N) (by rw [e4]; exact hn0) (by rw [e4]; exact hn) (by unfold Wd_; rw [rQ0_r (by decide)]; exact hw) (by rw [e146]; exact hb)
  rw [e146, e4] at f3
  refine ⟨N1, m, ⟨f1, f2, f3⟩, fun G Qtq h => t_218 fun V hV hW => b_218_0 (Tr_mono _) hV hW _ ⟨.inl rfl, hr (dq + 15) _ _ (q_226 ?_ h)⟩⟩
  left
  rw [rQ1_6 (by decide), f2 13 (by decide), rQ0_k.1]; decide
end PRa
end T315_pr
section T316_pr
/-! reads (X 101): the filling of all routes -/
def rX2 (M : mm_) : mm_ := up_ (up_ (up_ (up_ (up_ M 1 9 0) 1 8 1) 1 21 0) 1 22 0) 1 23 0
/-- all routes below k are filled -/
def FLL (M0 M N : mm_) (k : Int) : Prop := ((∀ q : Nat, q ∉ [1, 114, 115, 116, 117, 118, 119] → M q = M0 q) ∧ (∀ i : Int, i ∉ [3, 32] → M 1 i = M0 1 i) ∧ M 1 32 = k) ∧ ∀ r, 0 ≤ r → r < k → RTX M N r (M0 55 r)
section PRb
variable {Qr : qr_} {Qt : qt_} {V : vv_} {M0 N : mm_} {x2 : Int}
theorem rX2_r [Inhabited gh_] {M : mm_} {k : Nat} (h1 : k ≠ 1) : rX2 M k = M k := by
  unfold rX2; rw [up_ne h1, up_ne h1, up_ne h1, up_ne h1, up_ne h1]
theorem rX2_1 [Inhabited gh_] {M : mm_} {i : Int} (h : i ∉ [8, 9, 21, 22, 23]) : rX2 M 1 i = M 1 i := by
  unfold rX2; rw [up_of2 (nm_i h (by decide)), up_of2 (nm_i h (by decide)), up_of2 (nm_i h (by decide)), up_of2 (nm_i h (by decide)), up_of2 (nm_i h (by decide))]
theorem rX2_k [Inhabited gh_] {M : mm_} : rX2 M 1 8 = 1 ∧ rX2 M 1 9 = 0 ∧ rX2 M 1 21 = 0 ∧ rX2 M 1 22 = 0 ∧ rX2 M 1 23 = 0 := by
  refine ⟨?_, ?_, ?_, ?_, ?_⟩ <;> unfold rX2 up_ <;> simp
theorem RTX_row [Inhabited gh_] {M1 M : mm_} {r a : Int} (h : RTX M N r a) (h70 : M1 70 = M 70) (h73 : M1 73 = M 73) (h4 : M1 114 (2 * r) = M 114 (2 * r) ∧ M1 114 (2 * r + 1) = M 114 (2 * r + 1)) (hr : ∀ k : Nat, k ∈ [115, 116, 117, 118, 119] → M1 k r = M k r) : RTX M1 N r a := by
  unfold RTX sdv at h ⊢
  rw [h70, h73, h4.1, h4.2, hr 115 (by decide), hr 116 (by decide), hr 117 (by decide), hr 118 (by decide), hr 119 (by decide)]
  exact h
theorem l_96 [Inhabited gh_] (hV : Cl_ wd0 (Tr_ wd0 pg0 132) V Qr Qt m_101) (hW : Wk_ V) (hT : Tks M0 N) (h1 : M0 1 2 = 5 ∧ M0 1 8 = 0 ∧ M0 1 9 = 1) (hs : sgl9 M0 N) (hp : tpl9 M0 N) (h51 : 0 ≤ M0 5 1 ∧ M0 5 1 ≤ 10) (hR : ∀ r, 0 ≤ r → r < M0 5 1 → RRW M0 N r)
    (hK : ∀ M', FLL M0 M' N (M0 5 1) → Tr_ wd0 pg0 132 102 [.inr (.inr 1)] (rX2 M') (rv_ fun M1 =>
   (if M1 1 4 = 0 then
    Tr_ wd0 pg0 132 179 [.inr (.inr 1)] M1 (rv_ fun M2 =>
     Qr [.inl (M2 1 4)] M2) (fun r M9 => (r = 7 ∨ r = 8) ∧ V 173 [rr 1, rr 9, ii x2, rr 5, none] [.inr (.inr r)] M9)
   else
    Qr [.inl (M1 1 4)] M1)) (fun r M9 => (r = 7 ∨ r = 8) ∧ V 173 [rr 1, rr 9, ii x2, rr 5, none] [.inr (.inr r)] M9)) : ∀ (j : Nat) (k : Int) (M : mm_), M0 5 1 - k ≤ (j : Int) → 0 ≤ k → k ≤ M0 5 1 → FLL M0 M N k → V 96 [rr 1, rr 9, ii x2, rr 5, none] [] M
  | j, k, M, hj, k0, k1, h => by
    obtain ⟨⟨f1, f2, f3⟩, f4⟩ := id h
    have e5 := f1 5 (by decide)
    refine b_101_96 (Tr_mono _) hV hW _ _ ⟨by rw [f2 2 (by decide)]; exact h1.1, ?_⟩
    rw [f3, e5, f1 55 (by decide)]
    by_cases c : k < M0 5 1
    · rw [if_pos c]
      refine ⟨by omega, ?_⟩
      have rr0 := hR k k0 c
      obtain ⟨⟨g0, t0, _⟩, ⟨m, hm⟩, _⟩ := rr0
      have x : ∀ q : Nat, q ≠ 1 → q ∉ [114, 115, 116, 117, 118, 119] → up_ M 1 3 (M0 55 k) q = M0 q := fun q h1 h2 => by rw [up_ne h1]; exact f1 q (fun e => h2 (by simp only [List.mem_cons, List.not_mem_nil, or_false] at e ⊢; (clear hV hW hT hs hp h51 hR hK hj k0 k1 h f4 f1 f2 f3 e5 c g0 t0 hm h2; lia)))
      have x1 : ∀ i : Int, i ∉ [3, 32] → up_ M 1 3 (M0 55 k) 1 i = M0 1 i := fun i hi => by rw [up_of2 (nm_i hi (by decide))]; exact f2 i hi
      have e70 := x 70 (by decide) (by decide)
      have e73 := x 73 (by decide) (by decide)
      have FL0 : FL (up_ M 1 3 (M0 55 k)) N (M0 55 k) := by
        refine ⟨⟨Tks_r hT (fun q hq => x q (fun e => by rw [e] at hq; revert hq; decide) (fun e => by simp only [List.mem_cons, List.not_mem_nil, or_false] at e hq; (clear hV hW hT h1 hs hp h51 hR hK hj k0 k1 h f4 f1 f2 f3 e5 c g0 t0 hm x x1 e70 e73; omega))) (fun _ _ => rfl), ⟨gd_c e70 g0, up_at⟩, by rw [x1 8 (by decide)]; exact h1.2.1, by rw [x1 2 (by decide)]; exact h1.1⟩, ?_, ?_⟩
        · unfold sgl9
          rw [x 5 (by decide) (by decide), x 56 (by decide) (by decide)]
          exact ⟨hs.1, fun k k0 k1 => ⟨nm9_r (hs.2 k k0 k1).1 e70, (hs.2 k k0 k1).2⟩⟩
        · unfold tpl9
          rw [x 5 (by decide) (by decide), x 58 (by decide) (by decide)]
          exact ⟨hp.1, fun k k0 k1 => ⟨nm9_r (hp.2 k k0 k1).1 e70, (hp.2 k k0 k1).2⟩⟩
      refine Tr_le (d := 131) (by decide) (f_122 (m := m) (r := k) FL0 (by rw [x1 9 (by decide)]; exact h1.2.2) (by rw [up_of2 (by decide)]; exact f3) (by omega) (by rw [e70]; exact t0) (by rw [e70, e73]; exact hm) (fun M1 a' F1 fl X1 => ?_))
      obtain ⟨⟨⟨r1, r2, r3, r4⟩, _⟩, r5⟩ := fl
      have u : ∀ q : Nat, q ≠ 1 → up_ (up_ M 1 3 (M0 55 k)) 1 32 (k + 1) q = M q := fun q hq => by rw [up_ne hq, up_ne hq]
      have nx : FLL M0 M1 N (k + 1) := by
        refine ⟨⟨fun q hq => ?_, fun i hi => ?_, ?_⟩, fun r r0 rk => ?_⟩
        · rw [r1 q hq, u q (fun e => hq (by rw [e]; decide))]; exact f1 q hq
        · rw [r5 i (nm_i hi (by decide)), up_of2 (nm_i hi (by decide)), up_of2 (nm_i hi (by decide))]; exact f2 i hi
        · rw [r5 32 (by decide), up_at]
        · by_cases cr : r = k
          · rw [cr]; exact X1
          · refine RTX_row (f4 r r0 (by (clear hV hW hT h1 hs hp h51 hR hK hj k0 k1 h f4 f1 f2 e5 c g0 t0 hm x x1 e70 e73 FL0 F1 X1 r5 r1 r2 r3 r4 u r0; omega))) ?_ ?_ ⟨?_, ?_⟩ (fun q hq => ?_)
            · rw [r1 70 (by decide), u 70 (by decide)]
            · rw [r1 73 (by decide), u 73 (by decide)]
            · rw [r4 (2 * r) (by (clear hV hW hT h1 hs hp h51 hR hK hj k0 k1 h f4 f1 f2 e5 c g0 t0 hm x x1 e70 e73 FL0 F1 X1 r5 r1 r2 r3 r4 u r0 rk; lia)) (by (clear hV hW hT h1 hs hp h51 hR hK hj k0 k1 h f4 f1 f2 e5 c g0 t0 hm x x1 e70 e73 FL0 F1 X1 r5 r1 r2 r3 r4 u r0 rk cr; lia)), u 114 (by decide)]
            · rw [r4 (2 * r + 1) (by (clear hV hW hT h1 hs hp h51 hR hK hj k0 k1 h f4 f1 f2 e5 c g0 t0 hm x x1 e70 e73 FL0 F1 X1 r5 r1 r2 r3 r4 u r0 rk cr; lia)) (by (clear hV hW hT h1 hs hp h51 hR hK hj k0 k1 h f4 f1 f2 e5 c g0 t0 hm x x1 e70 e73 FL0 F1 X1 r5 r1 r2 r3 r4 u r0 rk; lia)), u 114 (by decide)]
            · rw [r3 q hq r cr, u q (fun e => by rw [e] at hq; revert hq; decide)]
      cases j with
      | zero => omega
      | succ j => exact l_96 hV hW hT h1 hs hp h51 hR hK j (k + 1) M1 (by omega) (by omega) (by omega) nx
    · rw [if_neg c]
      have ek : k = M0 5 1 := by (clear hV hW hT h1 hs hp h51 hR hK hj k0 h f4 f1 f2 e5; lia)
      rw [ek] at h
      exact ⟨.inl rfl, .inr rfl, hK M h⟩
end PRb
end T316_pr
