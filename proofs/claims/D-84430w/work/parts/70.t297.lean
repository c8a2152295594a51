section T297_gw
/-! growth at the system's level: the invariant of pass 2 -/
def WTY (M N : mm_) (T : Int) : Prop := ∃ (q0 : Int) (n : Nat) (c j : Int), (0 ≤ q0 ∧ q0 + n ≤ N 6 76) ∧ (M 67 T = xo_ c (-1) ∧ M 68 T = xo_ j (-1)) ∧ ((∀ s, 0 ≤ s → (bt_ c s ↔ CMS N T q0 (q0 + n) s)) ∧ 0 ≤ c ∧ c < wM (M 123 T)) ∧ ((∀ l, 0 ≤ l → (bt_ j l ↔ ∃ me, (q0 ≤ me ∧ me < q0 + n) ∧ bt_ (N 214 me) l)) ∧ 0 ≤ j ∧ j < 1024)
  ∧ (∀ me, 0 ≤ me → me < N 6 76 → (N 211 me = T ↔ q0 ≤ me ∧ me < q0 + n)) ∧ (∀ l, 0 ≤ l → l < N 175 T → q0 ≤ N 189 (10 * T + l) ∧ N 189 (10 * T + l) < q0 + n) ∧ ∀ me, q0 ≤ me → me < q0 + n → (0 ≤ N 213 me ∧ N 213 me < wM (M 123 T)) ∧ (0 ≤ N 214 me ∧ N 214 me < 1024) ∧ (N 215 me = 0 → 0 ≤ N 212 me ∧ N 212 me < 4096)
def GBT (M N : mm_) : Prop := ((∀ s, 0 ≤ s → s < 20 → (bt_ (M 1 21) s ↔ ∃ k, (0 ≤ k ∧ k < N 6 75) ∧ N 203 k = 2 ∧ N 205 k = s)) ∧ (∀ s, 0 ≤ s → s < 6 → (bt_ (M 1 23) s ↔ ∃ k, (0 ≤ k ∧ k < N 6 75) ∧ N 203 k = 5 ∧ N 205 k = s))) ∧ (0 ≤ M 1 22 ∧ M 1 22 < 1048576) ∧ ∀ s, 0 ≤ s → s < 20 → (bt_ (M 1 22) s ↔ ∃ k i, (0 ≤ k ∧ k < N 6 62) ∧ N 193 k = 0 ∧ (N 198 k ≤ i ∧ i < N 199 k) ∧ N 200 i = s)
def GRW (M N : mm_) (np : Int) : Prop := N 6 13 = 0 → (∀ k, 0 ≤ k → k < N 6 62 → ∀ j, 0 ≤ j → j < nsK N k → SRO M N k (xsf N k.toNat + j) (N 198 k + j)) ∧ (∀ T, 0 ≤ T → T < np → (ATP M N T (N 176 T) (M 127 T) ∧ ∀ l, 0 ≤ l → l < N 175 T → ATP M N T (N 188 (10 * T + l)) (M 129 (10 * T + l))) ∧ WTY M N T) ∧ (∀ me, 0 ≤ me → me < N 6 76 → 0 ≤ N 211 me ∧ N 211 me < np) ∧ GBT M N
/-- with the routes: their ends are known -/
def GRX (M N : mm_) (np nr : Int) : Prop := GRW M N np ∧ (N 6 13 = 0 → ∀ r, 0 ≤ r → r < nr → M 114 (2 * r) ≠ -1 ∧ M 114 (2 * r + 1) ≠ -1 ∧ M 115 r ≤ M 116 r)
section GWb
variable {b F F' : Int} {M N M' N' M1 N1 : mm_} {lb ub T k c y i x me f a a' np ns nr q0 q1 s : Int}
theorem j0_b [Inhabited gh_] : ∀ n : Nat, (∀ x, 0 ≤ x → x < (n : Int) → 0 ≤ M 65 x ∧ M 65 x < 1024) → (0 ≤ j0_ M n ∧ j0_ M n < 1024) ∧ ∀ l, 0 ≤ l → (bt_ (j0_ M n) l ↔ ∃ x, (0 ≤ x ∧ x < (n : Int)) ∧ bt_ (M 65 x) l)
  | 0, _ => ⟨⟨Int.le_refl _, by show (0 : Int) < 1024; decide⟩, fun l _ => ⟨fun h => absurd h bt_0, fun ⟨x, hx, _⟩ => by omega⟩⟩
  | n + 1, h => by
    obtain ⟨r1, r2⟩ := j0_b n (fun x x0 x1 => h x x0 (by omega))
    obtain ⟨o1, o2⟩ := or_b2 (m := 10) (by decide) (x := j0_ M n) (y := M 65 n) r1 (h n (by omega) (by omega))
    refine ⟨o1, fun l l0 => ?_⟩
    show bt_ (or_ (j0_ M n) (M 65 n)) l ↔ _
    rw [o2 l l0, r2 l l0]
    constructor
    · rintro (⟨x, hx, e⟩ | e)
      · exact ⟨x, by omega, e⟩
      · exact ⟨n, by omega, e⟩
    · rintro ⟨x, hx, e⟩
      by_cases c : x = n
      · rw [c] at e; exact .inr e
      · exact .inl ⟨x, by omega, e⟩
theorem CMS_c [Inhabited gh_] (hr : ∀ r me, r ∈ tqL → q0 ≤ me → me < q1 → N1 r me = N r me) (h175 : N1 175 T = N 175 T) (h189 : ∀ l, 0 ≤ l → l < N 175 T → N1 189 (10 * T + l) = N 189 (10 * T + l)) : CMS N1 T q0 q1 s ↔ CMS N T q0 q1 s := by
  have e : ∀ P C, CMC N1 T q0 q1 P C ↔ CMC N T q0 q1 P C := fun P C => by
    unfold CMC
    rw [h175]
    constructor
    · rintro ⟨a1, a2, a3, a4⟩
      refine ⟨fun me m0 m1 => ?_, fun me l m0 m1 p l0 l1 => ?_, fun me s m0 m1 => ?_, fun me s m0 m1 => ?_⟩
      · rw [← hr 215 me (by decide) m0 m1]; exact a1 me m0 m1
      · rw [← hr 214 me (by decide) m0 m1, ← h189 l l0 l1]; exact a2 me l m0 m1 p l0 l1
      · rw [← hr 213 me (by decide) m0 m1]; exact a3 me s m0 m1
      · rw [← hr 212 me (by decide) m0 m1, ← hr 215 me (by decide) m0 m1]; exact a4 me s m0 m1
    · rintro ⟨a1, a2, a3, a4⟩
      refine ⟨fun me m0 m1 => ?_, fun me l m0 m1 p l0 l1 => ?_, fun me s m0 m1 => ?_, fun me s m0 m1 => ?_⟩
      · rw [hr 215 me (by decide) m0 m1]; exact a1 me m0 m1
      · rw [hr 214 me (by decide) m0 m1, h189 l l0 l1]; exact a2 me l m0 m1 p l0 l1
      · rw [hr 213 me (by decide) m0 m1]; exact a3 me s m0 m1
      · rw [hr 212 me (by decide) m0 m1, hr 215 me (by decide) m0 m1]; exact a4 me s m0 m1
  unfold CMS
  exact ⟨fun h P C hc => h P C ((e P C).2 hc), fun h P C hc => h P C ((e P C).1 hc)⟩
/-- another type's facts stay -/
theorem WTY_c [Inhabited gh_] (h : WTY M N T) (h67 : M1 67 T = M 67 T) (h68 : M1 68 T = M 68 T) (h123 : M1 123 T = M 123 T) (h175 : N1 175 T = N 175 T) (h189 : ∀ l, 0 ≤ l → l < N 175 T → N1 189 (10 * T + l) = N 189 (10 * T + l)) (hm : N 6 76 ≤ N1 6 76) (hr : ∀ r i, r ∈ tqL → 0 ≤ i → i < N 6 76 → N1 r i = N r i) (hn : ∀ me, N 6 76 ≤ me → me < N1 6 76 → N1 211 me ≠ T) : WTY M1 N1 T := by
  obtain ⟨q0, n, c, j, w1, w2, ⟨w3, w4⟩, ⟨w5, w6⟩, w7, w8, w9⟩ := h
  have hr' : ∀ r me, r ∈ tqL → q0 ≤ me → me < q0 + n → N1 r me = N r me := fun r me hh m0 m1 => hr r me hh (by omega) (by omega)
  refine ⟨q0, n, c, j, by omega, by rw [h67, h68]; exact w2, ⟨fun s s0 => by rw [w3 s s0, CMS_c hr' h175 h189], by rw [h123]; exact w4⟩, ⟨fun l l0 => ?_, w6⟩, fun me m0 m1 => ?_, fun l l0 l1 => ?_, fun me m0 m1 => ?_⟩
  · rw [w5 l l0]
    constructor
    · rintro ⟨me, hm, e⟩
      exact ⟨me, hm, by rw [hr' 214 me (by decide) hm.1 hm.2]; exact e⟩
    · rintro ⟨me, hm, e⟩
      exact ⟨me, hm, by rw [← hr' 214 me (by decide) hm.1 hm.2]; exact e⟩
  · by_cases c : me < N 6 76
    · rw [hr 211 me (by decide) m0 c]; exact w7 me m0 c
    · exact ⟨fun e => absurd e (hn me (by omega) m1), fun e => by omega⟩
  · rw [h175] at l1
    rw [h189 l l0 l1]; exact w8 l l0 l1
  · rw [hr' 213 me (by decide) m0 m1, hr' 214 me (by decide) m0 m1, hr' 215 me (by decide) m0 m1, hr' 212 me (by decide) m0 m1, h123]
    exact w9 me m0 m1
theorem GRW_1 [Inhabited gh_] {M N M' N' : mm_} {np : Int} (h : GRW M N np) (hx : ∀ k : Nat, k ≠ 1 → M' k = M k) (h1 : ∀ i : Int, i ∉ [3, 4, 5, 7, 31, 32] → M' 1 i = M 1 i) (hq : ∀ k : Nat, k ≠ 6 → N' k = N k) (h6 : ∀ i : Int, i ∉ [12, 13, 14] → N' 6 i = N 6 i) (hz : N' 6 13 = 0 → N 6 13 = 0) : GRW M' N' np := by
  intro hc
  obtain ⟨g1, g2, g3, g4⟩ := h (hz hc)
  have e5 := hx 5 (by decide)
  have ox : OXS 0 0 M M' := ⟨by rw [e5]; exact ⟨Int.le_refl _, Int.le_refl _⟩, fun i _ _ => by rw [hx 142 (by decide)], fun r i hr _ _ => by rw [hx r (fun e => by rw [e] at hr; revert hr; decide)], fun i _ _ => by rw [hx 137 (by decide)], fun i _ => by rw [hx 129 (by decide)]⟩
  have l62 := h6 62 (by decide)
  have l63 := h6 63 (by decide)
  have l75 := h6 75 (by decide)
  have l76 := h6 76 (by decide)
  have l90 := h6 90 (by decide)
  have l104 := h6 104 (by decide)
  have oq : OQS 0 0 N N' := ⟨⟨fun r hr => hq r (fun e => by rw [e] at hr; revert hr; decide), fun i hi => h6 i (fun e => by simp only [List.mem_cons, List.not_mem_nil, or_false] at hi e; omega)⟩, by rw [l62, l63, l75, l76, l90, l104]; omega, fun r i hr _ _ => by rw [hq r (fun e => by rw [e] at hr; revert hr; decide)], fun i _ _ => by rw [hq 200 (by decide), hq 201 (by decide)]; exact ⟨rfl, rfl⟩, fun i _ _ => by rw [hq 202 (by decide)], fun r i hr _ _ => by rw [hq r (fun e => by rw [e] at hr; revert hr; decide)], fun i _ _ => by rw [hq 209 (by decide)], fun r i hr _ _ => by rw [hq r (fun e => by rw [e] at hr; revert hr; decide)], fun i _ _ => by rw [hq 227 (by decide), hq 228 (by decide)]; exact ⟨rfl, rfl⟩, fun r i hr _ _ => by rw [hq r (fun e => by rw [e] at hr; revert hr; decide)], fun i _ => by rw [hq 188 (by decide), hq 189 (by decide)]; exact ⟨rfl, rfl⟩⟩
  have ns : ∀ k, nsK N' k = nsK N k := fun k => by unfold nsK; rw [hq 193 (by decide), hq 198 (by decide), hq 199 (by decide)]
  have xs : ∀ n : Nat, xsf N' n = xsf N n := fun n => by
    induction n with
    | zero => rfl
    | succ n ih => show xsf N' n + nsK N' n = xsf N n + nsK N n; rw [ih, ns]
  refine ⟨fun k k0 k1 j j0 j1 => ?_, fun T T0 T1 => ⟨⟨?_, fun l l0 l1 => ?_⟩, ?_⟩, fun me m0 m1 => ?_, ?_⟩
  · rw [l62] at k1
    rw [ns] at j1
    rw [xs, hq 198 (by decide)]
    have g := g1 k k0 k1 j j0 j1
    obtain ⟨s1, s2, s3, s4⟩ := g
    unfold SRO
    rw [hq 193 (by decide), hq 192 (by decide), hq 197 (by decide), hq 196 (by decide), hq 195 (by decide), hx 141 (by decide), hx 139 (by decide), hx 140 (by decide)]
    refine ⟨fun e => ATP_S (s1 e) ox oq, fun e => ?_, fun e => ⟨ASK_S (s3 e).1 ox oq, (s3 e).2⟩, fun e => ?_⟩
    · rcases s2 e with h | h
      · exact .inl h
      · exact .inr (ASK_S h ox oq)
    · have s5 := s4 e
      unfold RWI UQI at s5 ⊢
      rw [hx 134 (by decide), hx 133 (by decide), hx 136 (by decide), hx 135 (by decide), hx 138 (by decide), hx 137 (by decide), hq 200 (by decide), hq 201 (by decide), hq 202 (by decide), hq 171 (by decide), hq 184 (by decide), hq 183 (by decide), hq 156 (by decide), hq 157 (by decide), hq 182 (by decide)]
      exact s5
  · rw [hq 176 (by decide), hx 127 (by decide)]; exact ATP_S (g2 T T0 T1).1.1 ox oq
  · rw [hq 175 (by decide)] at l1
    rw [hq 188 (by decide), hx 129 (by decide)]; exact ATP_S ((g2 T T0 T1).1.2 l l0 l1) ox oq
  · exact WTY_c (g2 T T0 T1).2 (by rw [hx 67 (by decide)]) (by rw [hx 68 (by decide)]) (by rw [hx 123 (by decide)]) (by rw [hq 175 (by decide)]) (fun l _ _ => by rw [hq 189 (by decide)]) (by omega) (fun r i hr _ _ => by rw [hq r (fun e => by rw [e] at hr; revert hr; decide)]) (fun me m0 m1 => by omega)
  · rw [l76] at m1
    rw [hq 211 (by decide)]; exact g3 me m0 m1
  · unfold GBT
    rw [h1 21 (by decide), h1 22 (by decide), h1 23 (by decide), l75, l62, hq 203 (by decide), hq 205 (by decide), hq 193 (by decide), hq 198 (by decide), hq 199 (by decide), hq 200 (by decide)]
    exact g4
theorem GRX_1 [Inhabited gh_] : IV1 GRX := fun M N M' N' np nr h hx h1 hq h6 hz => ⟨GRW_1 h.1 hx h1 hq h6 hz, fun hc r r0 r1 => by rw [hx 114 (by decide), hx 115 (by decide), hx 116 (by decide)]; exact h.2 (hz hc) r r0 r1⟩
theorem GRX_R [Inhabited gh_] : IVR GRX := fun M N M' N' np nr h hx h1 hq h6 hz => ⟨GRW_1 h.1 hx h1 hq h6 (fun e => (hz e).1), fun hc r r0 r1 => by
  rw [hx 114 (by decide), hx 115 (by decide), hx 116 (by decide)]
  by_cases c : r = nr
  · rw [c]; exact (hz hc).2
  · exact h.2 (hz hc).1 r r0 (by omega)⟩
end GWb
end T297_gw
section T298_gw
/-! growth at the system's level: a process more -/
def sxL : List Nat := [5, 129, 133, 134, 135, 136, 137, 138, 139, 140, 141, 142]
section GWc
variable {b F F' : Int} {M N M' N' M1 N1 Me : mm_} {lb ub T k c y i x me f a a' np ns nr q0 q1 s : Int}
theorem OXS_x [Inhabited gh_] (hx : ∀ r : Nat, r ∈ sxL → M1 r = M r) : OXS 0 0 M M1 := ⟨by rw [hx 5 (by decide)]; exact ⟨Int.le_refl _, Int.le_refl _⟩, fun i _ _ => by rw [hx 142 (by decide)], fun r i hr _ _ => by rw [hx r (by revert hr; unfold st9L sxL; simp only [List.mem_cons, List.not_mem_nil, or_false]; omega)], fun i _ _ => by rw [hx 137 (by decide)], fun i _ => by rw [hx 129 (by decide)]⟩
theorem OQS_rf [Inhabited gh_] : OQS 0 0 N N := ⟨⟨fun _ _ => rfl, fun _ _ => rfl⟩, ⟨Int.le_refl _, Int.le_refl _, Int.le_refl _, Int.le_refl _, Int.le_refl _, Int.le_refl _⟩, fun _ _ _ _ _ => rfl, fun _ _ _ => ⟨rfl, rfl⟩, fun _ _ _ => rfl, fun _ _ _ _ _ => rfl, fun _ _ _ => rfl, fun _ _ _ _ _ => rfl, fun _ _ _ => ⟨rfl, rfl⟩, fun _ _ _ _ _ => rfl, fun _ _ => ⟨rfl, rfl⟩⟩
theorem ATP_x [Inhabited gh_] (h : ATP M N T k c) (hx : ∀ r : Nat, r ∈ sxL → M1 r = M r) : ATP M1 N T k c := ATP_S h (OXS_x hx) OQS_rf
theorem SRO_x [Inhabited gh_] (h : SRO M N k y i) (hx : ∀ r : Nat, r ∈ sxL → M1 r = M r) : SRO M1 N k y i := by
  obtain ⟨s1, s2, s3, s4⟩ := h
  unfold SRO
  rw [hx 141 (by decide), hx 139 (by decide), hx 140 (by decide)]
  refine ⟨fun e => ATP_x (s1 e) hx, fun e => ?_, fun e => ⟨ASK_S (s3 e).1 (OXS_x hx) OQS_rf, (s3 e).2⟩, fun e => ?_⟩
  · rcases s2 e with h | h
    · exact .inl h
    · exact .inr (ASK_S h (OXS_x hx) OQS_rf)
  · have s5 := s4 e
    unfold RWI UQI at s5 ⊢
    rw [hx 134 (by decide), hx 133 (by decide), hx 136 (by decide), hx 135 (by decide), hx 138 (by decide), hx 137 (by decide)]
    exact s5
theorem PRO_18 [Inhabited gh_] (hP : PRO b F F' M N M' N' np a a') : M' 1 18 = np := by
  obtain ⟨F1, Mz, Nz, Ma, Na, Z, pz, k58, k52, ct, Ha, Mh, Nh, ah, c, Fh, Hh, ph, cb, cc, n170, S', P', f', at'⟩ := hP
  obtain ⟨e18, e19, e29, e33, e61⟩ := hd_18 ct
  have h18 : Mh 1 18 = np := by rw [ph.1.2.1 18 (by decide), up_ne (by decide)]; exact e18
  exact (sB_18 f').trans h18
theorem GRW_2 [Inhabited gh_] {F F' : Int} {M N M' N' Me : mm_} {a a' ns nr np : Int} (S : SYS 1 F M N a ns nr np) (hnp : np < M 5 2) (hI : GRW M N np) (P : PRO 1 F F' M N M' N' np a a') (S' : SYS 1 F' Me N' a' ns nr (np + 1)) (hM : ∃ f c j, Me = cmX M' f c j ∧ (N' 6 13 = 0 → ∃ n : Nat, CMD M' N' np (N 6 76) n c j ∧ N' 6 76 = N 6 76 + n)) : GRW Me N' (np + 1) := by
  intro hz
  obtain ⟨f, c, j, eM, cm⟩ := hM
  obtain ⟨n, ⟨cm1, cm2, ⟨rw1, rw2, rw3, rw4⟩, cm4⟩, q76⟩ := cm hz
  obtain ⟨⟨ox, oq⟩, ⟨k127, m67, m68, m123⟩, gg⟩ := PRO_G S P
  obtain ⟨n0, s1, s2, s3, s4, s5⟩ := gg hz
  obtain ⟨g1, g2, g3, ⟨g4, g4'⟩, g5, g6⟩ := hI n0
  have m18 := PRO_18 P
  have sc := SYS_SC2 S rfl
  have h0 := S.2.1.2.1.2.2
  have cr : ∀ r : Nat, r ≠ 63 → r ≠ 67 → r ≠ 68 → Me r = M' r := fun r h1 h2 h3 => by rw [eM]; exact cmX_r h1 h2 h3
  have sx : ∀ r : Nat, r ∈ sxL → Me r = M' r := fun r hr => cr r (fun e => by rw [e] at hr; revert hr; decide) (fun e => by rw [e] at hr; revert hr; decide) (fun e => by rw [e] at hr; revert hr; decide)
  have e67 : ∀ T, Me 67 T = if T = np then xo_ c (-1) else M 67 T := fun T => by
    rw [eM]; unfold cmX
    rw [m18, up_ne (by decide)]
    by_cases cT : T = np
    · rw [if_pos cT, cT, up_at]
    · rw [if_neg cT, up_of2 cT, wr_ne (by decide), m67]
  have e68 : ∀ T, Me 68 T = if T = np then xo_ j (-1) else M 68 T := fun T => by
    rw [eM]; unfold cmX
    rw [m18]
    by_cases cT : T = np
    · rw [if_pos cT, cT, up_at]
    · rw [if_neg cT, up_of2 cT, up_ne (by decide), wr_ne (by decide), m68]
  have e123 : Me 123 = M 123 := by rw [cr 123 (by decide) (by decide) (by decide), m123]
  have e1 : Me 1 = M' 1 := cr 1 (by decide) (by decide) (by decide)
  have q75 := oq.2.1.2.2.1
  have q62 := oq.2.1.1
  have t175 : N' 175 = N 175 := oq.1.1 175 (by decide)
  have tq := oq.2.2.2.2.2.2.2.2.2.1
  have l188 := oq.2.2.2.2.2.2.2.2.2.2
  have new211 : ∀ me, N 6 76 ≤ me → me < N' 6 76 → N' 211 me = np := fun me m0 m1 => by
    have := (rw1 (me - N 6 76) (by omega) (by omega)).1
    rw [show N 6 76 + (me - N 6 76) = me by omega] at this; exact this
  have n76 := sc.1.2.2.2
  refine ⟨fun k k0 k1 j j0 j1 => ?_, fun T T0 T1 => ?_, fun me m0 m1 => ?_, ⟨fun s s0 s1' => ?_, fun s s0 s1' => ?_⟩, ?_⟩
  · by_cases ck : k < N 6 62
    · rw [nsK_S oq ⟨k0, ck⟩] at j1
      rw [xsf_S oq k.toNat (by omega), oq.2.2.1 198 k (by decide) k0 ck]
      have lt := xsf_l2 sc ⟨k0, ck⟩ ⟨j0, j1⟩
      have sk := sc.2.1 k k0 ck
      exact SRO_x (SRO_S (g1 k k0 ck j j0 j1) ox oq ⟨k0, ck⟩ lt (fun e => by unfold nsK at j1; rw [if_pos e] at j1; omega)) sx
    · exact SRO_x (s1 k (by omega) k1 j j0 j1) sx
  · by_cases cT : T = np
    · rw [cT]
      refine ⟨⟨?_, fun l l0 l1 => ?_⟩, ?_⟩
      · rw [cr 127 (by decide) (by decide) (by decide)]; exact ATP_x s3 sx
      · rw [cr 129 (by decide) (by decide) (by decide)]; exact ATP_x (s2 l l0 (rw2 l l0 l1).1) sx
      · have b65 : ∀ x, 0 ≤ x → x < (n : Int) → 0 ≤ M' 65 x ∧ M' 65 x < 1024 := fun x x0 x1 => (rw1 x x0 x1).2.2.2.1.2
        obtain ⟨j1, j2⟩ := j0_b (M := M') n b65
        have c123 : M' 123 np = Me 123 np := by rw [e123, m123]
        refine ⟨N 6 76, n, c, j, by omega, ⟨by rw [e67 np, if_pos rfl], by rw [e68 np, if_pos rfl]⟩, ⟨cm1, by rw [← c123]; exact cm2⟩, ⟨fun l l0 => ?_, by rw [cm4]; exact j1⟩, fun me m0 m1 => ?_, fun l l0 l1 => (rw2 l l0 l1).2, fun me m0 m1 => ?_⟩
        · rw [cm4, j2 l l0]
          constructor
          · rintro ⟨x, hx, e⟩
            refine ⟨N 6 76 + x, by omega, ?_⟩
            rw [← (rw1 x hx.1 hx.2).2.2.2.1.1]; exact e
          · rintro ⟨me, hm, e⟩
            refine ⟨me - N 6 76, by omega, ?_⟩
            rw [(rw1 (me - N 6 76) (by omega) (by omega)).2.2.2.1.1, show N 6 76 + (me - N 6 76) = me by omega]; exact e
        · constructor
          · intro e
            by_cases cm : me < N 6 76
            · rw [tq 211 me (by decide) m0 cm] at e
              have := g3 me m0 cm
              omega
            · omega
          · intro e; exact new211 me e.1 (by omega)
        · have r := rw1 (me - N 6 76) (by omega) (by omega)
          rw [show N 6 76 + (me - N 6 76) = me by omega] at r
          refine ⟨by rw [← r.2.2.1.1, ← c123]; exact r.2.2.1.2, by rw [← r.2.2.2.1.1]; exact r.2.2.2.1.2, fun e => ?_⟩
          rcases r.2.1 with z | z
          · exact absurd e z.2
          · exact z.2.2.2.1
    · have T2 : T < np := by omega
      obtain ⟨⟨t1, t2⟩, t3⟩ := g2 T T0 T2
      have k7 := k127 T cT
      refine ⟨⟨?_, fun l l0 l1 => ?_⟩, ?_⟩
      · rw [cr 127 (by decide) (by decide) (by decide), k7.1, k7.2]; exact ATP_x (ATP_S t1 ox oq) sx
      · rw [t175] at l1
        have b175 : N 175 T ≤ 10 := by
          have := (S.1.2.2.1 T T0 (by omega)).2.2.2.2.1.1.1
          omega
        rw [cr 129 (by decide) (by decide) (by decide), ox.2.2.2.2 (10 * T + l) (by omega), (l188 (10 * T + l) (by omega)).1]
        exact ATP_x (ATP_S (t2 l l0 l1) ox oq) sx
      · have b175 : N 175 T ≤ 10 := by
          have := (S.1.2.2.1 T T0 (by omega)).2.2.2.2.1.1.1
          omega
        exact WTY_c t3 (by rw [e67 T, if_neg cT]) (by rw [e68 T, if_neg cT]) (by rw [e123]) (by rw [t175]) (fun l l0 l1 => (l188 (10 * T + l) (by omega)).2) (by omega) tq (fun me m0 m1 => by rw [new211 me m0 m1]; exact fun e => cT e.symm)
  · by_cases cm : me < N 6 76
    · rw [tq 211 me (by decide) m0 cm]
      have := g3 me m0 cm
      omega
    · rw [new211 me (by omega) m1]; omega
  · rw [e1, s4.1 s s0 s1', g4 s s0 s1']
    have op := oq.2.2.2.2.2.1
    constructor
    · rintro (⟨k, hk, e1, e2⟩ | ⟨k, hk, e1, e2⟩)
      · exact ⟨k, by omega, by rw [op 203 k (by decide) hk.1 hk.2]; exact e1, by rw [op 205 k (by decide) hk.1 hk.2]; exact e2⟩
      · exact ⟨k, by have := sc.1.2.2.1; omega, e1, e2⟩
    · rintro ⟨k, hk, e1, e2⟩
      by_cases ck : k < N 6 75
      · exact .inl ⟨k, ⟨hk.1, ck⟩, by rw [← op 203 k (by decide) hk.1 ck]; exact e1, by rw [← op 205 k (by decide) hk.1 ck]; exact e2⟩
      · exact .inr ⟨k, by omega, e1, e2⟩
  · rw [e1, s4.2 s s0 s1', g4' s s0 s1']
    have op := oq.2.2.2.2.2.1
    constructor
    · rintro (⟨k, hk, e1, e2⟩ | ⟨k, hk, e1, e2⟩)
      · exact ⟨k, by omega, by rw [op 203 k (by decide) hk.1 hk.2]; exact e1, by rw [op 205 k (by decide) hk.1 hk.2]; exact e2⟩
      · exact ⟨k, by have := sc.1.2.2.1; omega, e1, e2⟩
    · rintro ⟨k, hk, e1, e2⟩
      by_cases ck : k < N 6 75
      · exact .inl ⟨k, ⟨hk.1, ck⟩, by rw [← op 203 k (by decide) hk.1 ck]; exact e1, by rw [← op 205 k (by decide) hk.1 ck]; exact e2⟩
      · exact .inr ⟨k, by omega, e1, e2⟩
  · obtain ⟨t1, t2⟩ := s5 g5
    rw [e1]
    refine ⟨t1, fun s s0 s1' => ?_⟩
    rw [t2 s s0 s1', g6 s s0 s1']
    have sq := oq.2.2.1
    have si := oq.2.2.2.1
    constructor
    · rintro (⟨k, i, hk, e1, hi, e2⟩ | ⟨k, i, hk, e1, hi, e2⟩)
      · have sk := sc.2.1 k hk.1 hk.2
        exact ⟨k, i, by omega, by rw [sq 193 k (by decide) hk.1 hk.2]; exact e1, by rw [sq 198 k (by decide) hk.1 hk.2, sq 199 k (by decide) hk.1 hk.2]; exact hi, by rw [(si i (by omega) (by omega)).1]; exact e2⟩
      · exact ⟨k, i, by have := sc.1.1; omega, e1, hi, e2⟩
    · rintro ⟨k, i, hk, e1, hi, e2⟩
      by_cases ck : k < N 6 62
      · have sk := sc.2.1 k hk.1 ck
        rw [sq 198 k (by decide) hk.1 ck, sq 199 k (by decide) hk.1 ck] at hi
        exact .inl ⟨k, i, ⟨hk.1, ck⟩, by rw [← sq 193 k (by decide) hk.1 ck]; exact e1, hi, by rw [← (si i (by omega) (by omega)).1]; exact e2⟩
      · exact .inr ⟨k, i, by omega, e1, hi, e2⟩
theorem GRX_2 [Inhabited gh_] : IV2 GRX := fun F F' M N M' N' Me a a' ns nr np S hnp hI P S' hM => ⟨GRW_2 S hnp hI.1 P S' hM, fun hz r r0 r1 => by
  obtain ⟨f, c, j, eM, cm⟩ := hM
  have pf := PRO_f S P
  have n0 := ((PRO_G S P).2.2 hz).1
  rw [eM, cmX_r (by decide) (by decide) (by decide), cmX_r (by decide) (by decide) (by decide), cmX_r (by decide) (by decide) (by decide), pf.1 114 (by decide), pf.1 115 (by decide), pf.1 116 (by decide)]
  exact hI.2 n0 r r0 r1⟩
end GWc
end T298_gw
section T299_ct
/-! Q.cut: the memory that it leaves, as one memory -/
section CUe
theorem l_219e [Inhabited gh_] {n : Int} {f : Int → Int} {M0 : mm_} (hn0 : 0 ≤ n) (hn : n ≤ 5000) (hb : ∀ i, 0 ≤ i → i < 5000 → -128 ≤ f i ∧ f i ≤ 127) (hw0 : Wd_ M0) (h0 : M0 146 = f) :
    ∀ (c m : Nat) (M : mm_) (k : Int), 1202 - m ≤ c → m ≤ 1201 → Fr_ [6, 149, 150, 151] M0 M → (∀ j, j ≠ 11 → M 6 j = M0 6 j) → M 6 11 = m → M 6 4 = n → 0 ≤ k → k ≤ n → bk_ f n k = ps_ f n m → TQ_ M f n m → (∀ j : Nat, j < m → ps_ f n j < n ∧ (qo_ f n (ps_ f n j)).1 ≠ 5) →
    ∃ (M' : mm_) (m' : Nat), (Fr_ [6, 149, 150, 151] M0 M' ∧ (∀ j, j ≠ 11 → M' 6 j = M0 6 j) ∧ M' 6 11 = m' ∧ QT_ M' f n m') ∧ ∀ (d : Nat) (V : vv_) (Qr : qr_) (Qt : qt_), Cl_ wd0 (Tr_ wd0 pg0 (d + 4)) V Qr Qt m_219 → Wk_ V → Qr [] M' → V 9 [rr 6, ii k, ii 0] [] M := by
  intro c
  induction c with
  | zero => intro m M k h1 h2; omega
  | succ c ih =>
    intro m M k hc hm hF hj h6 h4 hk0 hkn hps hT hg
    have e146 : M 146 = f := by rw [hF 146 (by decide)]; exact h0
    have hw : Wd_ M := by unfold Wd_; rw [hF 148 (by decide)]; exact hw0
    have hpr := ps_r f n hn0 m
    by_cases h1 : (m : Int) ≤ 1200
    · by_cases h2 : ps_ f n m < n
      · have hT' := TQ_tok (p := ps_ f n m) (k := (qo_ f n (ps_ f n m)).1) (v := (qo_ f n (ps_ f n m)).2.1) h6 hT rfl (fun _ => ⟨rfl, rfl⟩) (fun h => absurd h2 h)
        have c11 : tok_ M (qo_ f n (ps_ f n m)).1 (ps_ f n m) (qo_ f n (ps_ f n m)).2.1 6 11 = ((m + 1 : Nat) : Int) := by unfold tok_; rw [up_at, h6]; omega
        have cj : ∀ j, j ≠ 11 → tok_ M (qo_ f n (ps_ f n m)).1 (ps_ f n m) (qo_ f n (ps_ f n m)).2.1 6 j = M0 6 j := fun j h => by unfold tok_; rw [up_off h, up_ne (by decide), up_ne (by decide), up_ne (by decide)]; exact hj j h
        have cF : Fr_ [6, 149, 150, 151] M0 (tok_ M (qo_ f n (ps_ f n m)).1 (ps_ f n m) (qo_ f n (ps_ f n m)).2.1) := Fr_up (Fr_up (Fr_up (Fr_up hF (by decide)) (by decide)) (by decide)) (by decide)
        have h149 := ((hT' m (by omega)).2.1 h2).1
        have em : (((m + 1 : Nat) : Int) - 1) = (m : Int) := by omega
        have go : ∀ {V : vv_} {Qr : qr_} {Qt : qt_} {d : Nat}, Cl_ wd0 (Tr_ wd0 pg0 (d + 4)) V Qr Qt m_219 → Wk_ V → (if (qo_ f n (ps_ f n m)).1 = 5 then V 9 [rr 6, ii (qo_ f n (ps_ f n m)).2.2, ii 1] [] (tok_ M (qo_ f n (ps_ f n m)).1 (ps_ f n m) (qo_ f n (ps_ f n m)).2.1) else V 9 [rr 6, ii (qo_ f n (ps_ f n m)).2.2, ii 0] [] (tok_ M (qo_ f n (ps_ f n m)).1 (ps_ f n m) (qo_ f n (ps_ f n m)).2.1)) → V 9 [rr 6, ii k, ii 0] [] M := fun {V Qr Qt d} hV hW h => by
          refine b_219_9 (Tr_mono _) hV hW k 0 M ?_
          rw [if_pos rfl, h6, if_pos h1]
          refine s_220 (by rw [h4]; exact hn) (by rw [e146]; exact hb) hk0 ?_
          rw [e146, h4, hps, if_pos h2]
          refine s_222 hw (by rw [h4]; exact hn) (by rw [h6]; omega) (by rw [h6]; omega) hpr.1 (by rw [h4]; exact h2) ?_
          rw [e146, h4, c11, w32_id (by omega) (by omega), em, h149]
          exact ⟨by omega, h⟩
        generalize hM1 : tok_ M (qo_ f n (ps_ f n m)).1 (ps_ f n m) (qo_ f n (ps_ f n m)).2.1 = M1 at *
        by_cases h3 : (qo_ f n (ps_ f n m)).1 = 5
        · refine ⟨M1, m + 1, ⟨cF, cj, c11, hT', fun j hj2 => hg j (by omega), by omega, by omega, .inr (.inl h3)⟩, fun d V Qr Qt hV hW hq => go hV hW ?_⟩
          rw [if_pos h3]
          refine b_219_9 (Tr_mono _) hV hW _ 1 M1 ?_
          rw [if_neg (by decide), if_neg (by decide)]; exact hq
        · obtain ⟨M', m', hp, hv⟩ := ih (m + 1) M1 (qo_ f n (ps_ f n m)).2.2 (by omega) (by omega) cF cj c11 (by rw [cj 4 (by decide), ← hj 4 (by decide)]; exact h4) (by rw [qo_end h2]; have := tk_end (f := f) hpr.2; omega) (by rw [qo_end h2]; have := tk_end (f := f) hpr.2; omega) (by rw [qo_end h2]; rfl) hT' (fun j hj2 => by
            by_cases h9 : j = m
            · rw [h9]; exact ⟨h2, h3⟩
            · exact hg j (by omega))
          refine ⟨M', m', hp, fun d V Qr Qt hV hW hq => go hV hW ?_⟩
          rw [if_neg h3]; exact hv d V Qr Qt hV hW hq
      · have e : ps_ f n m = n := by omega
        have hT' := TQ_tok (p := n) (k := 0) (v := 0) h6 hT e.symm (fun h => absurd h h2) (fun _ => ⟨rfl, rfl⟩)
        refine ⟨tok_ M 0 n 0, m + 1, ⟨Fr_up (Fr_up (Fr_up (Fr_up hF (by decide)) (by decide)) (by decide)) (by decide), fun j h => by unfold tok_; rw [up_off h, up_ne (by decide), up_ne (by decide), up_ne (by decide)]; exact hj j h, by unfold tok_; rw [up_at, h6]; omega, hT', fun j hj2 => hg j (by omega), by omega, by omega, .inl h2⟩, fun d V Qr Qt hV hW hq => ?_⟩
        refine b_219_9 (Tr_mono _) hV hW k 0 M ?_
        rw [if_pos rfl, h6, if_pos h1]
        refine s_220 (by rw [h4]; exact hn) (by rw [e146]; exact hb) hk0 ?_
        rw [e146, h4, hps, if_neg h2, if_pos rfl, h6, if_pos h1]
        exact s_224 (by rw [h6]; omega) (by rw [h6]; omega) hq
    · have e : m = 1201 := by omega
      refine ⟨M, m, ⟨hF, hj, h6, hT, fun j hj2 => hg j (by omega), by omega, by omega, .inr (.inr e)⟩, fun d V Qr Qt hV hW hq => ?_⟩
      refine b_219_9 (Tr_mono _) hV hW k 0 M ?_
      rw [if_pos rfl, h6, if_neg h1, if_pos rfl, if_neg h1]; exact hq
theorem s_219e [Inhabited gh_] {M : mm_} (hn0 : 0 ≤ M 6 4) (hn : M 6 4 ≤ 5000) (hw : Wd_ M) (hb : ∀ i, 0 ≤ i → i < 5000 → -128 ≤ M 146 i ∧ M 146 i ≤ 127) :
    ∃ (M' : mm_) (m : Nat), (Fr_ [6, 149, 150, 151] M M' ∧ (∀ j, j ≠ 11 → M' 6 j = M 6 j) ∧ QT_ M' (M 146) (M 6 4) m) ∧ ∀ (d : Nat) (Kv : mm_ → Prop) (Qt : qt_), Kv M' → Tr_ wd0 pg0 (d + 5) 219 [.inr (.inr 6)] M (rv_ Kv) Qt := by
  obtain ⟨M', m, ⟨h1, h2, h3, h4⟩, h5⟩ := l_219e (M0 := up_ M 6 11 0) (f := M 146) (n := M 6 4) hn0 hn hb (by unfold Wd_; rw [up_ne (by decide)]; exact hw) (by rw [up_ne (by decide)]) 1202 0 (up_ M 6 11 0) 0 (by omega) (by omega) Fr_rf (fun _ _ => rfl) (by rw [up_at]; rfl) (by rw [up_off (by decide)]) (Int.le_refl _) hn0 rfl (fun i hi => absurd hi (by omega)) (fun i hi => absurd hi (by omega))
  exact ⟨M', m, ⟨Fr_tr (Fr_up Fr_rf (by decide)) h1, fun j h => by rw [h2 j h, up_off h], h4⟩, fun d Kv Qt hk => t_219 fun V hV hW => b_219_0 (Tr_mono _) hV hW M (h5 d V _ Qt hV hW (rv_i hk))⟩
end CUe
end T299_ct
section T300_bs
/-! bits of a mask, and of its complement -/
section BTs
theorem ti_of {x : Int} (h0 : -2147483648 ≤ x) (h1 : x < 2147483648) : (Int32.ofInt x).toInt = x := by
  rw [Int32.toInt_ofInt]
  exact Int.bmod_eq_of_le (by show -(((4294967296 : Nat) : Int) / 2) ≤ x; omega) (by show x < (((4294967296 : Nat) : Int) + 1) / 2; omega)
theorem xo_n1 {c : Int} (h0 : 0 ≤ c) (h1 : c < 2147483648) : xo_ c (-1) = -c - 1 := by
  unfold xo_
  have e : Int32.ofInt (-1) = -1 := by decide
  rw [e, Int32.xor_neg_one, Int32.toInt_not, ti_of (by omega) h1]
  exact Int.bmod_eq_of_le (by omega) (by omega)
theorem sr_i {x : Int} {k : Nat} (h0 : -2147483648 ≤ x) (h1 : x < 2147483648) (hk : k < 32) : sr_ x (k : Int) = x / ((2 ^ k : Nat) : Int) := by
  unfold sr_
  show (Int32.toBitVec (_ >>> _)).toInt = _
  rw [Int32.toBitVec_shiftRight]
  have h9 := sh_amt hk
  simp only [BitVec.sshiftRight_eq', h9]
  rw [BitVec.toInt_sshiftRight]
  have : (Int32.ofInt x).toBitVec.toInt = x := ti_of h0 h1
  rw [this, Int.shiftRight_eq_div_pow]
theorem an_1 {y : Int} (h0 : -2147483648 ≤ y) (h1 : y < 2147483648) : an_ y 1 = y % 2 := by
  unfold an_
  show (Int32.toBitVec (_ &&& _)).toInt = _
  rw [Int32.toBitVec_and]
  have e1 : (Int32.ofInt 1).toBitVec = 1#32 := by decide
  rw [e1]
  have e2 : ((Int32.ofInt y).toBitVec &&& 1#32).toNat = (Int32.ofInt y).toBitVec.toNat % 2 := by
    rw [BitVec.toNat_and]
    show _ &&& 1 = _
    rw [Nat.and_one_is_mod]
  have e3 : (Int32.ofInt y).toBitVec.toInt = y := ti_of h0 h1
  have e4 : ((Int32.ofInt y).toBitVec &&& 1#32).toInt = (((Int32.ofInt y).toBitVec &&& 1#32).toNat : Int) := by
    rw [BitVec.toInt_eq_toNat_of_lt]
    rw [e2]; omega
  rw [e4, e2]
  have e5 := BitVec.toInt_eq_toNat_cond (Int32.ofInt y).toBitVec
  rw [e3] at e5
  split at e5 <;> omega
theorem bt_d {c s : Int} (h0 : 0 ≤ c) (hs : 0 ≤ s) : bt_ c s ↔ (c / ((2 ^ s.toNat : Nat) : Int)) % 2 = 1 := by
  unfold bt_
  rw [Nat.testBit_eq_decide_div_mod_eq]
  obtain ⟨m, hm⟩ := Int.eq_ofNat_of_zero_le h0
  subst hm
  rw [decide_eq_true_iff, Int.toNat_natCast]
  constructor
  · intro h
    have : (((m / 2 ^ s.toNat % 2 : Nat)) : Int) = 1 := by rw [h]; rfl
    rw [← this]; simp
  · intro h
    have : (((m / 2 ^ s.toNat % 2 : Nat)) : Int) = 1 := by rw [← h]; simp
    omega
theorem an_sr {c s : Int} (h0 : 0 ≤ c) (h1 : c < 2147483648) (hs : 0 ≤ s) (hs1 : s < 31) : (an_ (sr_ c s) 1 = 0 ↔ ¬ bt_ c s) ∧ (an_ (sr_ c s) 1 = 1 ↔ bt_ c s) := by
  obtain ⟨k, hk⟩ := Int.eq_ofNat_of_zero_le hs
  have e : sr_ c s = c / ((2 ^ s.toNat : Nat) : Int) := by
    rw [hk, sr_i (by omega) h1 (by omega), Int.toNat_natCast]
  have p : (0 : Int) < ((2 ^ s.toNat : Nat) : Int) := by
    have := Nat.two_pow_pos s.toNat; omega
  have d0 : 0 ≤ c / ((2 ^ s.toNat : Nat) : Int) := Int.ediv_nonneg h0 (Int.le_of_lt p)
  have d1 : c / ((2 ^ s.toNat : Nat) : Int) ≤ c := Int.ediv_le_self _ h0
  rw [e, an_1 (by omega) (by omega), bt_d h0 hs]
  constructor <;> constructor <;> omega
theorem an_srn {c s : Int} (h0 : 0 ≤ c) (h1 : c < 2147483648) (hs : 0 ≤ s) (hs1 : s < 31) : an_ (sr_ (xo_ c (-1)) s) 1 = 0 ↔ bt_ c s := by
  obtain ⟨k, hk⟩ := Int.eq_ofNat_of_zero_le hs
  have e : sr_ (xo_ c (-1)) s = (-c - 1) / ((2 ^ s.toNat : Nat) : Int) := by
    rw [xo_n1 h0 h1, hk, sr_i (by omega) (by omega) (by omega), Int.toNat_natCast]
  have p : (0 : Int) < ((2 ^ s.toNat : Nat) : Int) := by
    have := Nat.two_pow_pos s.toNat; omega
  have d0 : 0 ≤ c / ((2 ^ s.toNat : Nat) : Int) := Int.ediv_nonneg h0 (Int.le_of_lt p)
  have d1 : c / ((2 ^ s.toNat : Nat) : Int) ≤ c := Int.ediv_le_self _ h0
  have q : (-c - 1) / ((2 ^ s.toNat : Nat) : Int) = -(c / ((2 ^ s.toNat : Nat) : Int)) - 1 := by
    generalize ((2 ^ s.toNat : Nat) : Int) = m at *
    have a1 := Int.mul_ediv_add_emod c m
    have a2 := Int.emod_nonneg c (show m ≠ 0 by omega)
    have a3 := Int.emod_lt_of_pos c p
    rw [show (-c - 1 : Int) = (m - 1 - c % m) + m * (-(c / m) - 1) by rw [Int.mul_sub, Int.mul_neg]; omega]
    rw [Int.add_mul_ediv_left _ _ (by omega), Int.ediv_eq_zero_of_lt (by omega) (by omega)]; omega
  rw [e, q, an_1 (by omega) (by omega), bt_d h0 hs]
  constructor <;> omega
end BTs
end T300_bs
section T301_wl
/-! warnings: a stack of pairs (kind, place), the greatest on top -/
def wgt (x p : Int × Int) : Prop := p.2 < x.2 ∨ (x.2 = p.2 ∧ p.1 < x.1)
def insR (p : Int × Int) : List (Int × Int) → List (Int × Int)
  | [] => [p]
  | x :: t => if p.2 < x.2 ∨ (x.2 = p.2 ∧ p.1 < x.1) then x :: insR p t else p :: x :: t
/-- the stack lies in two rows -/
def WAr (A B : Int → Int) : List (Int × Int) → Prop
  | [] => True
  | x :: t => (A t.length = x.1 ∧ B t.length = x.2) ∧ WAr A B t
def inA (l : List (Int × Int)) (R : List (Int × Int)) : List (Int × Int) := l.foldl (fun R p => insR p R) R
section WLa
variable {A B A' B' : Int → Int} {p q x : Int × Int} {R t l l' : List (Int × Int)}
theorem insR_len : ∀ R : List (Int × Int), (insR p R).length = R.length + 1
  | [] => rfl
  | x :: t => by
    unfold insR
    split
    · simp [insR_len t]
    · rfl
theorem insR_c : ∀ R : List (Int × Int), insR p (insR q R) = insR q (insR p R)
  | [] => by
    show (if p.2 < q.2 ∨ (q.2 = p.2 ∧ p.1 < q.1) then [q, p] else [p, q]) = (if q.2 < p.2 ∨ (p.2 = q.2 ∧ q.1 < p.1) then [p, q] else [q, p])
    by_cases c3 : p.2 < q.2 ∨ (q.2 = p.2 ∧ p.1 < q.1)
    · rw [if_pos c3, if_neg (by omega)]
    · rw [if_neg c3]
      by_cases c4 : q.2 < p.2 ∨ (p.2 = q.2 ∧ q.1 < p.1)
      · rw [if_pos c4]
      · rw [if_neg c4]
        have h : p = q := Prod.ext (by omega) (by omega)
        rw [h]
  | x :: t => by
    have ih := insR_c t
    by_cases c1 : q.2 < x.2 ∨ (x.2 = q.2 ∧ q.1 < x.1)
    · by_cases c2 : p.2 < x.2 ∨ (x.2 = p.2 ∧ p.1 < x.1)
      · have e1 : insR q (x :: t) = x :: insR q t := by show (if _ then _ else _) = _; rw [if_pos c1]
        have e2 : insR p (x :: t) = x :: insR p t := by show (if _ then _ else _) = _; rw [if_pos c2]
        rw [e1, e2]
        show (if _ then _ else _) = (if _ then _ else _)
        rw [if_pos c2, if_pos c1, ih]
      · have e1 : insR q (x :: t) = x :: insR q t := by show (if _ then _ else _) = _; rw [if_pos c1]
        have e2 : insR p (x :: t) = p :: x :: t := by show (if _ then _ else _) = _; rw [if_neg c2]
        rw [e1, e2]
        show (if _ then _ else _) = (if _ then _ else _)
        rw [if_neg c2, if_pos (by omega), e1]
    · by_cases c2 : p.2 < x.2 ∨ (x.2 = p.2 ∧ p.1 < x.1)
      · have e1 : insR q (x :: t) = q :: x :: t := by show (if _ then _ else _) = _; rw [if_neg c1]
        have e2 : insR p (x :: t) = x :: insR p t := by show (if _ then _ else _) = _; rw [if_pos c2]
        rw [e1, e2]
        show (if _ then _ else _) = (if _ then _ else _)
        rw [if_neg c1, if_pos (by omega), e2]
      · have e1 : insR q (x :: t) = q :: x :: t := by show (if _ then _ else _) = _; rw [if_neg c1]
        have e2 : insR p (x :: t) = p :: x :: t := by show (if _ then _ else _) = _; rw [if_neg c2]
        rw [e1, e2]
        show (if _ then _ else _) = (if _ then _ else _)
        by_cases c3 : p.2 < q.2 ∨ (q.2 = p.2 ∧ p.1 < q.1)
        · rw [if_pos c3, if_neg (by omega), e2]
        · rw [if_neg c3]
          by_cases c4 : q.2 < p.2 ∨ (p.2 = q.2 ∧ q.1 < p.1)
          · rw [if_pos c4, e1]
          · rw [if_neg c4]
            have h : p = q := Prod.ext (by omega) (by omega)
            rw [h]
theorem inA_app : inA (l ++ l') R = inA l' (inA l R) := by unfold inA; rw [List.foldl_append]
theorem inA_one : ∀ (l : List (Int × Int)) (R : List (Int × Int)), inA l (insR p R) = insR p (inA l R)
  | [], _ => rfl
  | y :: l, R => by
    show inA l (insR y (insR p R)) = insR p (inA l (insR y R))
    rw [insR_c, inA_one l]
theorem inA_swap : ∀ (l l' : List (Int × Int)) (R : List (Int × Int)), inA l (inA l' R) = inA l' (inA l R)
  | [], _, _ => rfl
  | y :: l, l', R => by
    show inA l (insR y (inA l' R)) = inA l' (inA l (insR y R))
    rw [← inA_one l' R, inA_swap l l']
theorem WAr_c : ∀ R : List (Int × Int), WAr A B R → (∀ i, 0 ≤ i → i < (R.length : Int) → A' i = A i ∧ B' i = B i) → WAr A' B' R
  | [], _, _ => trivial
  | x :: t, h, hc => by
    have e := hc t.length (by omega) (by simp; omega)
    refine ⟨by rw [e.1, e.2]; exact h.1, WAr_c t h.2 (fun i i0 i1 => hc i i0 (by simp; omega))⟩
end WLa
end T301_wl
section T302_wl
/-! warnings: one more (X 180 | Q 318) -/
section WLb
variable {d : Nat} {Kv : mm_ → Prop} {Qt : qt_} {V : vv_} {x1 x2 p n : Int}
theorem WAr_ins [Inhabited gh_] {A' B' : Int → Int} {y q : Int × Int} {t : List (Int × Int)} (h : WAr A' B' (insR q t)) (c : q.2 < y.2 ∨ (y.2 = q.2 ∧ q.1 < y.1)) (e1 : A' ((t.length : Int) + 1) = y.1) (e2 : B' ((t.length : Int) + 1) = y.2) : WAr A' B' (insR q (y :: t)) := by
  show WAr A' B' (if _ then _ else _)
  rw [if_pos c]
  have e : ((insR q t).length : Int) = (t.length : Int) + 1 := by rw [insR_len]; omega
  exact ⟨by rw [e]; exact ⟨e1, e2⟩, h⟩
theorem l_180 [Inhabited gh_] (hV : Cl_ wd0 (Tr_ wd0 pg0 d) V (rv_ Kv) Qt m_180) (hW : Wk_ V) : ∀ (R : List (Int × Int)) (M : mm_), M 1 2 = 5 → R.length < 200 → (0 ≤ M 5 36 ∧ M 5 36 < 200) → WAr (M 143) (M 144) R
    → (∀ M', (∀ k : Nat, k ∉ [5, 143, 144] → M' k = M k) → (∀ i : Int, i ≠ 36 → M' 5 i = M 5 i) → M' 5 36 = M 5 36 + 1 → (∀ i, (R.length : Int) < i → M' 143 i = M 143 i ∧ M' 144 i = M 144 i) → WAr (M' 143) (M' 144) (insR (x1, p) R) → Kv M')
    → V 19 [rr 1, ii x1, ii x2, ii p, ii (R.length : Int)] [] M
  | R, M, h2, hl, h36, hA, hK => by
    -- where it is put
    have put : ∀ R' : List (Int × Int), R' = R → insR (x1, p) R' = (x1, p) :: R' → V 122 [rr 1, ii x1, ii x2, ii p, ii (R.length : Int)] [] M := fun R' eR e => by
      refine b_180_122 (Tr_mono _) hV hW _ _ _ _ _ ?_
      rw [w32_id (x := M 5 36 + 1) (by omega) (by omega)]
      refine ⟨h2, by omega, h2, by omega, h2, rv_i (hK _ (fun k hk => ?_) (fun i hi => ?_) up_at (fun i hi => ?_) ?_)⟩
      · rw [up_ne (fun e => hk (by rw [e]; decide)), up_ne (fun e => hk (by rw [e]; decide)), up_ne (fun e => hk (by rw [e]; decide))]
      · rw [up_of2 hi, up_ne (by decide), up_ne (by decide)]
      · have ne : i ≠ (R.length : Int) := by omega
        rw [up_ne (by decide), up_ne (by decide), up_of2 ne, up_ne (by decide), up_of2 ne, up_ne (by decide)]
        exact ⟨rfl, rfl⟩
      · rw [← eR, e]
        refine ⟨⟨?_, ?_⟩, ?_⟩
        · rw [eR, up_ne (by decide), up_ne (by decide), up_at]
        · rw [eR, up_ne (by decide), up_at]
        · rw [eR]
          refine WAr_c R hA (fun i i0 i1 => ?_)
          have ne : i ≠ (R.length : Int) := by omega
          rw [up_ne (by decide), up_ne (by decide), up_of2 ne, up_ne (by decide), up_of2 ne, up_ne (by decide)]
          exact ⟨rfl, rfl⟩
    refine b_180_19 (Tr_mono _) hV hW _ _ _ _ _ ?_
    match R, hA, put with
    | [], _, put =>
      rw [if_pos (by simp)]
      exact put [] rfl rfl
    | y :: t, hA, put =>
      have el : (((y :: t).length : Nat) : Int) = (t.length : Int) + 1 := by simp
      have hl' : (t.length : Int) + 1 < 200 := by rw [← el]; omega
      rw [el, if_neg (by omega), show (t.length : Int) + 1 - 1 = t.length by omega, w32_id (x := (t.length : Int)) (by omega) (by omega), hA.1.1, hA.1.2]
      rw [el] at put hK
      have stop : ¬ (p < y.2 ∨ (y.2 = p ∧ x1 < y.1)) → V 122 [rr 1, ii x1, ii x2, ii p, ii ((t.length : Int) + 1)] [] M := fun c => put (y :: t) rfl (by show (if _ then _ else _) = _; rw [if_neg c])
      have go : (p < y.2 ∨ (y.2 = p ∧ x1 < y.1)) → V 72 [rr 1, ii x1, ii x2, ii p, ii ((t.length : Int) + 1)] [] M := fun c => by
        refine b_180_72 (Tr_mono _) hV hW _ _ _ _ _ ?_
        rw [show (t.length : Int) + 1 - 1 = t.length by omega, w32_id (x := (t.length : Int)) (by omega) (by omega), show (t.length : Int) + 1 + -1 = t.length by omega, w32_id (x := (t.length : Int)) (by omega) (by omega), hA.1.1, hA.1.2]
        refine ⟨h2, h2, by omega, by omega, h2, h2, by omega, by omega, ?_⟩
        have e143 : up_ (up_ M 143 ((t.length : Int) + 1) y.1) 144 ((t.length : Int) + 1) y.2 143 ((t.length : Int) + 1) = y.1 := by rw [up_ne (by decide), up_at]
        have e144 : up_ (up_ M 143 ((t.length : Int) + 1) y.1) 144 ((t.length : Int) + 1) y.2 144 ((t.length : Int) + 1) = y.2 := up_at
        have eo : ∀ i, i ≠ (t.length : Int) + 1 → up_ (up_ M 143 ((t.length : Int) + 1) y.1) 144 ((t.length : Int) + 1) y.2 143 i = M 143 i ∧ up_ (up_ M 143 ((t.length : Int) + 1) y.1) 144 ((t.length : Int) + 1) y.2 144 i = M 144 i := fun i hi => by
          rw [up_ne (by decide), up_of2 hi, up_of2 hi, up_ne (by decide)]; exact ⟨rfl, rfl⟩
        have ek : ∀ k : Nat, k ≠ 143 → k ≠ 144 → up_ (up_ M 143 ((t.length : Int) + 1) y.1) 144 ((t.length : Int) + 1) y.2 k = M k := fun k h1 h3 => by rw [up_ne h3, up_ne h1]
        generalize up_ (up_ M 143 ((t.length : Int) + 1) y.1) 144 ((t.length : Int) + 1) y.2 = M1 at *
        have e5 := ek 5 (by decide) (by decide)
        refine l_180 hV hW t M1 (by rw [ek 1 (by decide) (by decide)]; exact h2) (by omega) (by rw [e5]; exact h36) (WAr_c t hA.2 (fun i i0 i1 => eo i (by omega))) (fun M' f1 f2 f3 f4 f5 => hK M' (fun k hk => ?_) (fun i hi => by rw [f2 i hi, e5]) (by rw [f3, e5]) (fun i hi => ?_) (WAr_ins f5 c ?_ ?_))
        · rw [f1 k hk, ek k (fun e => hk (by rw [e]; decide)) (fun e => hk (by rw [e]; decide))]
        · rw [(f4 i (by omega)).1, (f4 i (by omega)).2]; exact eo i (by omega)
        · rw [(f4 _ (by omega)).1]; exact e143
        · rw [(f4 _ (by omega)).2]; exact e144
      refine ⟨h2, by omega, ?_⟩
      by_cases c1 : y.2 ≤ p
      · rw [if_pos c1]
        refine ⟨h2, by omega, ?_⟩
        by_cases c2 : y.2 = p
        · rw [if_pos c2]
          refine ⟨h2, by omega, ?_⟩
          by_cases c3 : y.1 ≤ x1
          · rw [if_pos c3]; exact stop (by omega)
          · rw [if_neg c3]; exact go (by omega)
        · rw [if_neg c2]; exact stop (by omega)
      · rw [if_neg c1]; exact go (by omega)
termination_by R => R.length
theorem x_180 [Inhabited gh_] {M : mm_} {R : List (Int × Int)} (h2 : M 1 2 = 5) (hx : 0 ≤ x2 ∧ x2 < 1202) (h36 : M 5 36 = (R.length : Int)) (hl : R.length < 200) (hA : WAr (M 143) (M 144) R)
    (hK : ∀ M', (∀ k : Nat, k ∉ [5, 143, 144] → M' k = M k) → (∀ i : Int, i ≠ 36 → M' 5 i = M 5 i) → M' 5 36 = ((insR (x1, M 71 x2) R).length : Int) → WAr (M' 143) (M' 144) (insR (x1, M 71 x2) R) → Kv M') : Tr_ wd0 pg0 (d + 1) 180 [.inr (.inr 1), .inl x1, .inl x2] M (rv_ Kv) Qt := by
  refine t_180 fun V hV hW => b_180_0 (Tr_mono _) hV hW _ _ _ ⟨hx, h2, ?_⟩
  rw [h36]
  exact l_180 hV hW R M h2 hl (by rw [h36]; omega) hA (fun M' f1 f2 f3 _ f5 => hK M' f1 f2 (by rw [f3, h36, insR_len]; omega) f5)
theorem l_318 [Inhabited gh_] (hV : Cl_ wd0 (Tr_ wd0 pg0 d) V (rv_ Kv) Qt m_318) (hW : Wk_ V) : ∀ (R : List (Int × Int)) (M : mm_), R.length < 400 → (0 ≤ M 6 120 ∧ M 6 120 < 400) → WAr (M 235) (M 236) R
    → (∀ M', (∀ k : Nat, k ∉ [6, 235, 236] → M' k = M k) → (∀ i : Int, i ≠ 120 → M' 6 i = M 6 i) → M' 6 120 = M 6 120 + 1 → (∀ i, (R.length : Int) < i → M' 235 i = M 235 i ∧ M' 236 i = M 236 i) → WAr (M' 235) (M' 236) (insR (x1, p) R) → Kv M')
    → V 5 [rr 6, ii x1, ii p, ii (R.length : Int)] [] M
  | R, M, hl, h36, hA, hK => by
    -- where it is put
    have put : ∀ R' : List (Int × Int), R' = R → insR (x1, p) R' = (x1, p) :: R' → V 79 [rr 6, ii x1, ii p, ii (R.length : Int)] [] M := fun R' eR e => by
      refine b_318_79 (Tr_mono _) hV hW _ _ _ _ ?_
      rw [w32_id (x := M 6 120 + 1) (by omega) (by omega)]
      refine ⟨by omega, by omega, rv_i (hK _ (fun k hk => ?_) (fun i hi => ?_) up_at (fun i hi => ?_) ?_)⟩
      · rw [up_ne (fun e => hk (by rw [e]; decide)), up_ne (fun e => hk (by rw [e]; decide)), up_ne (fun e => hk (by rw [e]; decide))]
      · rw [up_of2 hi, up_ne (by decide), up_ne (by decide)]
      · have ne : i ≠ (R.length : Int) := by omega
        rw [up_ne (by decide), up_ne (by decide), up_of2 ne, up_ne (by decide), up_of2 ne, up_ne (by decide)]
        exact ⟨rfl, rfl⟩
      · rw [← eR, e]
        refine ⟨⟨?_, ?_⟩, ?_⟩
        · rw [eR, up_ne (by decide), up_ne (by decide), up_at]
        · rw [eR, up_ne (by decide), up_at]
        · rw [eR]
          refine WAr_c R hA (fun i i0 i1 => ?_)
          have ne : i ≠ (R.length : Int) := by omega
          rw [up_ne (by decide), up_ne (by decide), up_of2 ne, up_ne (by decide), up_of2 ne, up_ne (by decide)]
          exact ⟨rfl, rfl⟩
    refine b_318_5 (Tr_mono _) hV hW _ _ _ _ ?_
    match R, hA, put with
    | [], _, put =>
      rw [if_pos (by simp)]
      exact put [] rfl rfl
    | y :: t, hA, put =>
      have el : (((y :: t).length : Nat) : Int) = (t.length : Int) + 1 := by simp
      have hl' : (t.length : Int) + 1 < 400 := by rw [← el]; omega
      rw [el, if_neg (by omega), show (t.length : Int) + 1 - 1 = t.length by omega, w32_id (x := (t.length : Int)) (by omega) (by omega), hA.1.1, hA.1.2]
      rw [el] at put hK
      have stop : ¬ (p < y.2 ∨ (y.2 = p ∧ x1 < y.1)) → V 79 [rr 6, ii x1, ii p, ii ((t.length : Int) + 1)] [] M := fun c => put (y :: t) rfl (by show (if _ then _ else _) = _; rw [if_neg c])
      have go : (p < y.2 ∨ (y.2 = p ∧ x1 < y.1)) → V 45 [rr 6, ii x1, ii p, ii ((t.length : Int) + 1)] [] M := fun c => by
        refine b_318_45 (Tr_mono _) hV hW _ _ _ _ ?_
        rw [show (t.length : Int) + 1 - 1 = t.length by omega, w32_id (x := (t.length : Int)) (by omega) (by omega), show (t.length : Int) + 1 + -1 = t.length by omega, w32_id (x := (t.length : Int)) (by omega) (by omega), hA.1.1, hA.1.2]
        refine ⟨by omega, by omega, by omega, by omega, ?_⟩
        have e235 : up_ (up_ M 235 ((t.length : Int) + 1) y.1) 236 ((t.length : Int) + 1) y.2 235 ((t.length : Int) + 1) = y.1 := by rw [up_ne (by decide), up_at]
        have e236 : up_ (up_ M 235 ((t.length : Int) + 1) y.1) 236 ((t.length : Int) + 1) y.2 236 ((t.length : Int) + 1) = y.2 := up_at
        have eo : ∀ i, i ≠ (t.length : Int) + 1 → up_ (up_ M 235 ((t.length : Int) + 1) y.1) 236 ((t.length : Int) + 1) y.2 235 i = M 235 i ∧ up_ (up_ M 235 ((t.length : Int) + 1) y.1) 236 ((t.length : Int) + 1) y.2 236 i = M 236 i := fun i hi => by
          rw [up_ne (by decide), up_of2 hi, up_of2 hi, up_ne (by decide)]; exact ⟨rfl, rfl⟩
        have ek : ∀ k : Nat, k ≠ 235 → k ≠ 236 → up_ (up_ M 235 ((t.length : Int) + 1) y.1) 236 ((t.length : Int) + 1) y.2 k = M k := fun k h1 h3 => by rw [up_ne h3, up_ne h1]
        generalize up_ (up_ M 235 ((t.length : Int) + 1) y.1) 236 ((t.length : Int) + 1) y.2 = M1 at *
        have e5 := ek 6 (by decide) (by decide)
        refine l_318 hV hW t M1 (by omega) (by rw [e5]; exact h36) (WAr_c t hA.2 (fun i i0 i1 => eo i (by omega))) (fun M' f1 f2 f3 f4 f5 => hK M' (fun k hk => ?_) (fun i hi => by rw [f2 i hi, e5]) (by rw [f3, e5]) (fun i hi => ?_) (WAr_ins f5 c ?_ ?_))
        · rw [f1 k hk, ek k (fun e => hk (by rw [e]; decide)) (fun e => hk (by rw [e]; decide))]
        · rw [(f4 i (by omega)).1, (f4 i (by omega)).2]; exact eo i (by omega)
        · rw [(f4 _ (by omega)).1]; exact e235
        · rw [(f4 _ (by omega)).2]; exact e236
      refine ⟨by omega, ?_⟩
      by_cases c1 : y.2 ≤ p
      · rw [if_pos c1]
        refine ⟨by omega, ?_⟩
        by_cases c2 : y.2 = p
        · rw [if_pos c2]
          refine ⟨by omega, ?_⟩
          by_cases c3 : y.1 ≤ x1
          · rw [if_pos c3]; exact stop (by omega)
          · rw [if_neg c3]; exact go (by omega)
        · rw [if_neg c2]; exact stop (by omega)
      · rw [if_neg c1]; exact go (by omega)
termination_by R => R.length
theorem q_318 [Inhabited gh_] {M : mm_} {R : List (Int × Int)} (h36 : M 6 120 = (R.length : Int)) (hl : R.length < 400) (hA : WAr (M 235) (M 236) R)
    (hK : ∀ M', (∀ k : Nat, k ∉ [6, 235, 236] → M' k = M k) → (∀ i : Int, i ≠ 120 → M' 6 i = M 6 i) → M' 6 120 = ((insR (x1, p) R).length : Int) → WAr (M' 235) (M' 236) (insR (x1, p) R) → Kv M') : Tr_ wd0 pg0 (d + 1) 318 [.inr (.inr 6), .inl x1, .inl p] M (rv_ Kv) Qt := by
  refine t_318 fun V hV hW => b_318_0 (Tr_mono _) hV hW _ _ _ ?_
  rw [h36]
  exact l_318 hV hW R M hl (by rw [h36]; omega) hA (fun M' f1 f2 f3 _ f5 => hK M' f1 f2 (by rw [f3, h36, insR_len]; omega) f5)
end WLb
end T302_wl
section T303_wx
/-! warnings: X's walk (179) -/
noncomputable def ifP (P : Prop) (l : List (Int × Int)) : List (Int × Int) := @ite _ P (Classical.propDecidable P) [] l
noncomputable def sgW (U W : Int → Prop) (pS : Int → Int) : Nat → List (Int × Int)
  | 0 => []
  | n + 1 => sgW U W pS n ++ (ifP (U n) [(2, pS n)] ++ ifP (W n) [(3, pS n)])
noncomputable def rwW (k0 : Int) (C : Int → Prop) (p : Int → Int) : Nat → List (Int × Int)
  | 0 => []
  | n + 1 => rwW k0 C p n ++ ifP (C n) [(k0, p n)]
noncomputable def tyW (C J : Int → Int → Prop) (Md : Int → Prop) (p12 p10 : Int → Int → Int) (pT : Int → Int) (ns nl : Int → Nat) : Nat → List (Int × Int)
  | 0 => []
  | n + 1 => tyW C J Md p12 p10 pT ns nl n ++ (rwW 1 (C n) (p12 n) (ns n) ++ ifP (Md n) [(4, pT n)] ++ rwW 5 (J n) (p10 n) (nl n))
section WXa
variable {d : Nat} {Kv : mm_ → Prop} {Qt : qt_} {V : vv_} {M M0 : mm_}
theorem ifP_t [Inhabited gh_] {P : Prop} {l : List (Int × Int)} (h : P) : ifP P l = [] := by unfold ifP; exact @if_pos _ (Classical.propDecidable P) h _ _ _
theorem ifP_f [Inhabited gh_] {P : Prop} {l : List (Int × Int)} (h : ¬ P) : ifP P l = l := by unfold ifP; exact @if_neg _ (Classical.propDecidable P) h _ _ _
theorem inA_len [Inhabited gh_] : ∀ (l R : List (Int × Int)), (inA l R).length = R.length + l.length
  | [], R => rfl
  | y :: l, R => by
    show (inA l (insR y R)).length = _
    rw [inA_len l, insR_len]; simp; omega
theorem ifP_len [Inhabited gh_] {P : Prop} {x : Int × Int} : (ifP P [x]).length ≤ 1 := by
  by_cases c : P
  · rw [ifP_t c]; simp
  · rw [ifP_f c]; simp
theorem rwW_len [Inhabited gh_] {k0 : Int} {C : Int → Prop} {p : Int → Int} : ∀ n : Nat, (rwW k0 C p n).length ≤ n
  | 0 => by simp [rwW]
  | n + 1 => by
    have h := rwW_len (k0 := k0) (C := C) (p := p) n
    have := @ifP_len _ (C n) (k0, p n)
    simp only [rwW, List.length_append]; omega
theorem sgW_len [Inhabited gh_] {U W : Int → Prop} {p : Int → Int} : ∀ n : Nat, (sgW U W p n).length ≤ 2 * n
  | 0 => by simp [sgW]
  | n + 1 => by
    have h := sgW_len (U := U) (W := W) (p := p) n
    have h1 := @ifP_len _ (U n) (2, p n)
    have h2 := @ifP_len _ (W n) (3, p n)
    simp only [sgW, List.length_append]; omega
theorem tyW_len [Inhabited gh_] {C J : Int → Int → Prop} {Md : Int → Prop} {p12 p10 : Int → Int → Int} {pT : Int → Int} {ns nl : Int → Nat} : ∀ n : Nat, (∀ T : Nat, T < n → ns T ≤ 12 ∧ nl T ≤ 10) → (tyW C J Md p12 p10 pT ns nl n).length ≤ 23 * n
  | 0, _ => by simp [tyW]
  | n + 1, hb => by
    have h := tyW_len (C := C) (J := J) (Md := Md) (p12 := p12) (p10 := p10) (pT := pT) n (fun T hT => hb T (by omega))
    have h1 := rwW_len (k0 := 1) (C := C n) (p := p12 n) (ns n)
    have h2 := rwW_len (k0 := 5) (C := J n) (p := p10 n) (nl n)
    have h3 := @ifP_len _ (Md n) (4, pT n)
    have h4 := hb n (by omega)
    simp only [tyW, List.length_append]; omega
/-- between two warnings: what stays, what lies there -/
def WXF (M0 M : mm_) (R : List (Int × Int)) : Prop := (∀ k : Nat, k ∉ [5, 143, 144] → M k = M0 k) ∧ (∀ i : Int, i ≠ 36 → M 5 i = M0 5 i) ∧ M 5 36 = (R.length : Int) ∧ WAr (M 143) (M 144) R
/-- one warning, if P does not hold -/
theorem x_w1 [Inhabited gh_] {R : List (Int × Int)} {P : Prop} {kd t p : Int} (h : WXF M0 M R) (h2 : M0 1 2 = 5) (hl : R.length < 200) (hx : 0 ≤ t ∧ t < 1202) (hp : M0 71 t = p) (hP : ¬ P) (hK : ∀ M', WXF M0 M' (inA (ifP P [(kd, p)]) R) → Kv M') : Tr_ wd0 pg0 (d + 1) 180 [.inr (.inr 1), .inl kd, .inl t] M (rv_ Kv) Qt := by
  obtain ⟨a1, a2, a3, a4⟩ := h
  refine x_180 (by rw [a1 1 (by decide)]; exact h2) hx a3 hl a4 (fun M' f1 f2 f3 f4 => hK M' ?_)
  rw [a1 71 (by decide), hp] at f3 f4
  rw [ifP_f hP]
  exact ⟨fun k hk => (f1 k hk).trans (a1 k hk), fun i hi => (f2 i hi).trans (a2 i hi), f3, f4⟩
end WXa
end T303_wx
section T304_wx
/-! warnings: X's walk (179), whole -/
section WXb
variable {d : Nat} {Kv : mm_ → Prop} {Qt : qt_} {V : vv_} {M M0 : mm_} {U W : Int → Prop} {C J : Int → Int → Prop} {Md : Int → Prop} {pS pT : Int → Int} {p12 p10 : Int → Int → Int} {x1 x2 : Int}
/-- the masks of the routes from and to the environment -/
def rmk (M : mm_) (o : Int) : Nat → Int
  | 0 => 0
  | n + 1 => or_ (rmk M o n) (if M 114 (2 * n + o) = -2 then M 119 n else 0)
theorem rmk_b [Inhabited gh_] {o : Int} : ∀ n : Nat, (∀ r, 0 ≤ r → r < (n : Int) → 0 ≤ M 119 r ∧ M 119 r < 1048576) → (0 ≤ rmk M o n ∧ rmk M o n < 1048576) ∧ ∀ s, 0 ≤ s → (bt_ (rmk M o n) s ↔ ∃ r, (0 ≤ r ∧ r < (n : Int)) ∧ M 114 (2 * r + o) = -2 ∧ bt_ (M 119 r) s)
  | 0, _ => ⟨⟨Int.le_refl _, by show (0 : Int) < 1048576; decide⟩, fun s _ => ⟨fun h => absurd h bt_0, fun ⟨x, hx, _⟩ => by omega⟩⟩
  | n + 1, h => by
    obtain ⟨r1, r2⟩ := rmk_b (o := o) n (fun x x0 x1 => h x x0 (by omega))
    have hn := h n (by omega) (by omega)
    have hy : 0 ≤ (if M 114 (2 * n + o) = -2 then M 119 n else 0) ∧ (if M 114 (2 * n + o) = -2 then M 119 n else 0) < ((2 ^ 20 : Nat) : Int) := by
      split
      · exact hn
      · exact ⟨Int.le_refl _, by decide⟩
    obtain ⟨o1, o2⟩ := or_b2 (m := 20) (by decide) (x := rmk M o n) r1 hy
    refine ⟨o1, fun s s0 => ?_⟩
    show bt_ (or_ (rmk M o n) _) s ↔ _
    rw [o2 s s0, r2 s s0]
    constructor
    · rintro (⟨x, hx, e⟩ | e)
      · exact ⟨x, by omega, e⟩
      · by_cases c : M 114 (2 * n + o) = -2
        · rw [if_pos c] at e; exact ⟨n, by omega, c, e⟩
        · rw [if_neg c] at e; exact absurd e bt_0
    · rintro ⟨x, hx, e1, e2⟩
      by_cases c : x = n
      · rw [c] at e1 e2; right; rw [if_pos e1]; exact e2
      · exact .inl ⟨x, by omega, e1, e2⟩
theorem l_260 [Inhabited gh_] (hV : Cl_ wd0 (Tr_ wd0 pg0 (d + 1)) V (rv_ Kv) Qt m_179) (hW : Wk_ V) {T : Int} {n : Nat} (h2 : M0 1 2 = 5) (hT : 0 ≤ T ∧ T < 6) (hn : M0 128 T = n) (hn1 : n ≤ 10) (hJ : ∀ l, 0 ≤ l → l < (n : Int) → (an_ (sr_ (M0 68 T) l) 1 = 0 ↔ J T l) ∧ (0 ≤ M0 62 (10 * T + l) ∧ M0 62 (10 * T + l) < 1202) ∧ M0 71 (M0 62 (10 * T + l)) = p10 T l) {R : List (Int × Int)} (hl : R.length + n < 200)
    (hK : ∀ M', WXF M0 M' (inA (rwW 5 (J T) (p10 T) n) R) → V 158 [rr 1, ii x1, ii x2, ii (T + 1), none] [] M') : ∀ (j k : Nat) (M : mm_), k + j = n → WXF M0 M (inA (rwW 5 (J T) (p10 T) k) R) → V 260 [rr 1, ii x1, ii x2, ii T, ii (k : Int)] [] M
  | j, k, M, hj, h => by
    have e2 : M 1 2 = 5 := by rw [h.1 1 (by decide)]; exact h2
    refine b_179_260 (Tr_mono _) hV hW _ _ _ _ _ ⟨e2, hT, ?_⟩
    rw [h.1 128 (by decide), hn, h.1 68 (by decide), h.1 62 (by decide)]
    by_cases c : (k : Int) < n
    · rw [if_pos c]
      cases j with
      | zero => omega
      | succ j =>
        obtain ⟨j1, j2, j3⟩ := hJ k (by omega) c
        have ea : inA (rwW 5 (J T) (p10 T) (k + 1)) R = inA (ifP (J T k) [(5, p10 T k)]) (inA (rwW 5 (J T) (p10 T) k) R) := by show inA (rwW 5 (J T) (p10 T) k ++ _) R = _; rw [inA_app]
        rw [w32_id (x := 10 * T) (by omega) (by omega), w32_id (x := 10 * T + (k : Int)) (by omega) (by omega), w32_id (x := (k : Int) + 1) (by omega) (by omega)]
        refine ⟨hT, ?_⟩
        by_cases cj : an_ (sr_ (M0 68 T) k) 1 = 0
        · rw [if_pos cj]
          exact l_260 hV hW h2 hT hn hn1 hJ hl hK j (k + 1) M (by omega) (by rw [ea, ifP_t (j1.1 cj)]; exact h)
        · rw [if_neg cj]
          have hlen := rwW_len (k0 := 5) (C := J T) (p := p10 T) k
          refine ⟨by omega, x_w1 (P := J T k) h h2 (by rw [inA_len]; omega) j2 j3 (fun e => cj (j1.2 e)) (fun M' h' => ?_)⟩
          exact l_260 hV hW h2 hT hn hn1 hJ hl hK j (k + 1) M' (by omega) (by rw [ea]; exact h')
    · rw [if_neg c, w32_id (x := T + 1) (by omega) (by omega)]
      have ek : k = n := by omega
      rw [ek] at h; exact hK M h
theorem l_172w [Inhabited gh_] (hV : Cl_ wd0 (Tr_ wd0 pg0 (d + 1)) V (rv_ Kv) Qt m_179) (hW : Wk_ V) {T : Int} {n : Nat} (h2 : M0 1 2 = 5) (hT : 0 ≤ T ∧ T < 6) (hn : M0 123 T = n) (hn1 : n ≤ 12) (hC : ∀ l, 0 ≤ l → l < (n : Int) → (an_ (sr_ (M0 67 T) l) 1 = 0 ↔ C T l) ∧ (0 ≤ M0 59 (12 * T + l) ∧ M0 59 (12 * T + l) < 1202) ∧ M0 71 (M0 59 (12 * T + l)) = p12 T l) (hM : ((M0 120 T ≠ 0 ∨ bt_ (M0 1 23) T) ↔ Md T) ∧ (0 ≤ M0 58 T ∧ M0 58 T < 1202) ∧ M0 71 (M0 58 T) = pT T ∧ 0 ≤ M0 1 23 ∧ M0 1 23 < 64) {R : List (Int × Int)} (hl : R.length + n + 1 < 200)
    (hK : ∀ M', WXF M0 M' (inA (rwW 1 (C T) (p12 T) n ++ ifP (Md T) [(4, pT T)]) R) → V 260 [rr 1, ii x1, ii x2, ii T, ii 0] [] M') : ∀ (j k : Nat) (M : mm_), k + j = n → WXF M0 M (inA (rwW 1 (C T) (p12 T) k) R) → V 172 [rr 1, ii x1, ii x2, ii T, ii (k : Int)] [] M
  | j, k, M, hj, h => by
    have e2 : M 1 2 = 5 := by rw [h.1 1 (by decide)]; exact h2
    refine b_179_172 (Tr_mono _) hV hW _ _ _ _ _ ⟨e2, hT, ?_⟩
    rw [h.1 123 (by decide), hn, h.1 67 (by decide), h.1 59 (by decide), h.1 120 (by decide), h.1 1 (by decide), h.1 58 (by decide)]
    have hlen := rwW_len (k0 := 1) (C := C T) (p := p12 T) k
    by_cases c : (k : Int) < n
    · rw [if_pos c]
      cases j with
      | zero => omega
      | succ j =>
        obtain ⟨j1, j2, j3⟩ := hC k (by omega) c
        have ea : inA (rwW 1 (C T) (p12 T) (k + 1)) R = inA (ifP (C T k) [(1, p12 T k)]) (inA (rwW 1 (C T) (p12 T) k) R) := by show inA (rwW 1 (C T) (p12 T) k ++ _) R = _; rw [inA_app]
        rw [w32_id (x := 12 * T) (by omega) (by omega), w32_id (x := 12 * T + (k : Int)) (by omega) (by omega), w32_id (x := (k : Int) + 1) (by omega) (by omega)]
        refine ⟨hT, ?_⟩
        by_cases cj : an_ (sr_ (M0 67 T) k) 1 = 0
        · rw [if_pos cj]
          exact l_172w hV hW h2 hT hn hn1 hC hM hl hK j (k + 1) M (by omega) (by rw [ea, ifP_t (j1.1 cj)]; exact h)
        · rw [if_neg cj]
          refine ⟨by omega, x_w1 (P := C T k) h h2 (by rw [inA_len]; omega) j2 j3 (fun e => cj (j1.2 e)) (fun M' h' => ?_)⟩
          exact l_172w hV hW h2 hT hn hn1 hC hM hl hK j (k + 1) M' (by omega) (by rw [ea]; exact h')
    · rw [if_neg c]
      have ek : k = n := by omega
      rw [ek] at h hlen
      obtain ⟨m1, m2, m3, m4, m5⟩ := hM
      refine ⟨h2, hT, ?_⟩
      by_cases c1 : M0 120 T = 0
      · rw [if_pos c1]
        have an := an_sr (c := M0 1 23) (s := T) m4 (by omega) hT.1 (by omega)
        by_cases c2 : an_ (sr_ (M0 1 23) T) 1 = 0
        · rw [if_pos c2]
          have nm : ¬ Md T := fun e => by
            rcases m1.2 e with e | e
            · exact e c1
            · exact (an.1.1 c2) e
          refine ⟨hT, x_w1 (P := Md T) h h2 (by rw [inA_len]; omega) m2 m3 nm (fun M' h' => hK M' ?_)⟩
          rw [inA_app]; exact h'
        · rw [if_neg c2]
          have nm : Md T := m1.1 (.inr (Classical.byContradiction fun e => c2 (an.1.2 e)))
          refine hK M ?_
          rw [inA_app, ifP_t nm]; exact h
      · rw [if_neg c1]
        refine hK M ?_
        rw [inA_app, ifP_t (m1.1 (.inl c1))]; exact h
theorem l_158w [Inhabited gh_] (hV : Cl_ wd0 (Tr_ wd0 pg0 (d + 1)) V (rv_ Kv) Qt m_179) (hW : Wk_ V) {n : Nat} {ns nl : Int → Nat} (h2 : M0 1 2 = 5) (hn : M0 5 2 = n) (hn1 : n ≤ 6) (hnl : ∀ T, 0 ≤ T → T < (n : Int) → (M0 123 T = ns T ∧ ns T ≤ 12) ∧ (M0 128 T = nl T ∧ nl T ≤ 10)) (hC : ∀ T l, 0 ≤ T → T < (n : Int) → 0 ≤ l → l < (ns T : Int) → (an_ (sr_ (M0 67 T) l) 1 = 0 ↔ C T l) ∧ (0 ≤ M0 59 (12 * T + l) ∧ M0 59 (12 * T + l) < 1202) ∧ M0 71 (M0 59 (12 * T + l)) = p12 T l)
    (hM : ∀ T, 0 ≤ T → T < (n : Int) → ((M0 120 T ≠ 0 ∨ bt_ (M0 1 23) T) ↔ Md T) ∧ (0 ≤ M0 58 T ∧ M0 58 T < 1202) ∧ M0 71 (M0 58 T) = pT T ∧ 0 ≤ M0 1 23 ∧ M0 1 23 < 64) (hJ : ∀ T l, 0 ≤ T → T < (n : Int) → 0 ≤ l → l < (nl T : Int) → (an_ (sr_ (M0 68 T) l) 1 = 0 ↔ J T l) ∧ (0 ≤ M0 62 (10 * T + l) ∧ M0 62 (10 * T + l) < 1202) ∧ M0 71 (M0 62 (10 * T + l)) = p10 T l) {R : List (Int × Int)} (hl : R.length ≤ 40)
    (hK : ∀ M', WXF M0 M' (inA (tyW C J Md p12 p10 pT ns nl n) R) → Kv M') : ∀ (j k : Nat) (M : mm_), k + j = n → WXF M0 M (inA (tyW C J Md p12 p10 pT ns nl k) R) → V 158 [rr 1, ii x1, ii x2, ii (k : Int), none] [] M
  | j, k, M, hj, h => by
    have e2 : M 1 2 = 5 := by rw [h.1 1 (by decide)]; exact h2
    refine b_179_158 (Tr_mono _) hV hW _ _ _ _ ⟨e2, ?_⟩
    rw [h.2.1 2 (by decide), hn]
    by_cases c : (k : Int) < n
    · rw [if_pos c]
      cases j with
      | zero => omega
      | succ j =>
        have hlen := tyW_len (C := C) (J := J) (Md := Md) (p12 := p12) (p10 := p10) (pT := pT) (ns := ns) (nl := nl) k (fun T hT => ⟨(hnl T (by omega) (by omega)).1.2, (hnl T (by omega) (by omega)).2.2⟩)
        obtain ⟨⟨s1, s2⟩, l1, l2⟩ := hnl k (by omega) c
        have h1 := rwW_len (k0 := 1) (C := C k) (p := p12 k) (ns k)
        have h3 := @ifP_len _ (Md k) (4, pT k)
        refine l_172w (C := C) (Md := Md) (p12 := p12) (pT := pT) (R := inA (tyW C J Md p12 p10 pT ns nl k) R) hV hW h2 (by omega) s1 s2 (fun l l0 l1 => hC k l (by omega) c l0 l1) (hM k (by omega) c) (by rw [inA_len]; omega) (fun M' h' => ?_) (ns k) 0 M (by omega) h
        refine l_260 (J := J) (p10 := p10) (R := inA (rwW 1 (C k) (p12 k) (ns k) ++ ifP (Md k) [(4, pT k)]) (inA (tyW C J Md p12 p10 pT ns nl k) R)) hV hW h2 (by omega) l1 l2 (fun l l0 l1 => hJ k l (by omega) c l0 l1) (by rw [inA_len, inA_len, List.length_append]; omega) (fun M' h' => ?_) (nl k) 0 M' (by omega) h'
        refine l_158w hV hW h2 hn hn1 hnl hC hM hJ hl hK j (k + 1) M' (by omega) ?_
        have ea : inA (tyW C J Md p12 p10 pT ns nl (k + 1)) R = inA (rwW 5 (J k) (p10 k) (nl k)) (inA (rwW 1 (C k) (p12 k) (ns k) ++ ifP (Md k) [(4, pT k)]) (inA (tyW C J Md p12 p10 pT ns nl k) R)) := by
          show inA (tyW C J Md p12 p10 pT ns nl k ++ (rwW 1 (C k) (p12 k) (ns k) ++ ifP (Md k) [(4, pT k)] ++ rwW 5 (J k) (p10 k) (nl k))) R = _
          rw [inA_app, inA_app]
        rw [ea]; exact h'
    · rw [if_neg c]
      have ek : k = n := by omega
      rw [ek] at h; exact rv_i (hK M h)
end WXb
end T304_wx
section T305_wx
/-! warnings: X's walk (179), its signals and routes -/
section WXc
variable {d : Nat} {Kv : mm_ → Prop} {Qt : qt_} {V : vv_} {M M0 : mm_} {U W : Int → Prop} {C J : Int → Int → Prop} {Md : Int → Prop} {pS pT : Int → Int} {p12 p10 : Int → Int → Int} {x1 x2 : Int}
theorem l_91w [Inhabited gh_] (hV : Cl_ wd0 (Tr_ wd0 pg0 (d + 1)) V (rv_ Kv) Qt m_179) (hW : Wk_ V) {n : Nat} (h2 : M0 1 2 = 5) (hn : M0 5 0 = n) (hn1 : n ≤ 20) (hU : ∀ s, 0 ≤ s → s < (n : Int) → (an_ (sr_ (or_ (M0 1 21) x1) s) 1 = 0 ↔ ¬ U s) ∧ (an_ (sr_ (or_ (M0 1 22) x2) s) 1 = 0 ↔ ¬ W s) ∧ (0 ≤ M0 56 s ∧ M0 56 s < 1202) ∧ M0 71 (M0 56 s) = pS s)
    (hK : ∀ M', WXF M0 M' (inA (sgW U W pS n) []) → V 158 [rr 1, ii x1, ii x2, ii 0, none] [] M') : ∀ (j k : Nat) (M : mm_), k + j = n → WXF M0 M (inA (sgW U W pS k) []) → V 91 [rr 1, ii x1, ii x2, ii (k : Int), none] [] M
  | j, k, M, hj, h => by
    have e2 : M 1 2 = 5 := by rw [h.1 1 (by decide)]; exact h2
    refine b_179_91 (Tr_mono _) hV hW _ _ _ _ ⟨e2, ?_⟩
    rw [h.2.1 0 (by decide), hn, h.1 1 (by decide), h.1 56 (by decide)]
    have hlen := sgW_len (U := U) (W := W) (p := pS) k
    by_cases c : (k : Int) < n
    · rw [if_pos c]
      cases j with
      | zero => omega
      | succ j =>
        obtain ⟨u1, u2, u3, u4⟩ := hU k (by omega) c
        have ea : inA (sgW U W pS (k + 1)) [] = inA (ifP (W k) [(3, pS k)]) (inA (ifP (U k) [(2, pS k)]) (inA (sgW U W pS k) [])) := by
          show inA (sgW U W pS k ++ (ifP (U k) [(2, pS k)] ++ ifP (W k) [(3, pS k)])) [] = _
          rw [inA_app, inA_app]
        have hu := @ifP_len _ (U k) (2, pS k)
        have second : ∀ M1, WXF M0 M1 (inA (ifP (U k) [(2, pS k)]) (inA (sgW U W pS k) [])) → V 126 [rr 1, ii x1, ii x2, ii (k : Int), none] [] M1 := fun M1 h1 => by
          refine b_179_126 (Tr_mono _) hV hW _ _ _ _ ?_
          rw [h1.1 1 (by decide), h1.1 56 (by decide), w32_id (x := (k : Int) + 1) (by omega) (by omega)]
          by_cases c2 : an_ (sr_ (or_ (M0 1 22) x2) k) 1 = 0
          · rw [if_pos c2]
            refine ⟨by omega, x_w1 (P := W k) h1 h2 (by rw [inA_len, inA_len]; simp; omega) u3 u4 (u2.1 c2) (fun M' h' => ?_)⟩
            exact l_91w hV hW h2 hn hn1 hU hK j (k + 1) M' (by omega) (by rw [ea]; exact h')
          · rw [if_neg c2]
            have w : W k := Classical.byContradiction fun e => c2 (u2.2 e)
            exact l_91w hV hW h2 hn hn1 hU hK j (k + 1) M1 (by omega) (by rw [ea, ifP_t w]; exact h1)
        by_cases c1 : an_ (sr_ (or_ (M0 1 21) x1) k) 1 = 0
        · rw [if_pos c1]
          exact ⟨by omega, x_w1 (P := U k) h h2 (by rw [inA_len]; simp; omega) u3 u4 (u1.1 c1) (fun M' h' => second M' h')⟩
        · rw [if_neg c1]
          have w : U k := Classical.byContradiction fun e => c1 (u1.2 e)
          exact second M (by rw [ifP_t w]; exact h)
    · rw [if_neg c]
      have ek : k = n := by omega
      rw [ek] at h; exact hK M h
theorem l_6w [Inhabited gh_] (hV : Cl_ wd0 (Tr_ wd0 pg0 (d + 1)) V (rv_ Kv) Qt m_179) (hW : Wk_ V) {n : Nat} (h2 : M 1 2 = 5) (hn : M 5 1 = n) (hn1 : n ≤ 10) (hK : V 91 [rr 1, ii (rmk M 0 n), ii (rmk M 1 n), ii 0, none] [] M) : ∀ (j k : Nat), k + j = n → V 6 [rr 1, ii (rmk M 0 k), ii (rmk M 1 k), ii (k : Int), none] [] M
  | j, k, hj => by
    refine b_179_6 (Tr_mono _) hV hW _ _ _ _ ⟨h2, ?_⟩
    rw [hn]
    by_cases c : (k : Int) < n
    · rw [if_pos c, w32_id (x := 2 * (k : Int)) (by omega) (by omega)]
      cases j with
      | zero => omega
      | succ j =>
        have ih := l_6w hV hW h2 hn hn1 hK j (k + 1) (by omega)
        have e0 : rmk M 0 (k + 1) = or_ (rmk M 0 k) (if M 114 (2 * k) = -2 then M 119 k else 0) := by
          show or_ (rmk M 0 k) (if M 114 (2 * (k : Int) + 0) = -2 then M 119 k else 0) = _
          rw [show 2 * (k : Int) + 0 = 2 * k by omega]
        have e1 : rmk M 1 (k + 1) = or_ (rmk M 1 k) (if M 114 (2 * k + 1) = -2 then M 119 k else 0) := rfl
        have b2 : ∀ v, v = rmk M 0 (k + 1) → V 49 [rr 1, ii v, ii (rmk M 1 k), ii (k : Int), none] [] M := fun v hv => by
          refine b_179_49 (Tr_mono _) hV hW _ _ _ _ ⟨h2, ?_⟩
          rw [w32_id (x := 2 * (k : Int)) (by omega) (by omega), w32_id (x := 2 * (k : Int) + 1) (by omega) (by omega), w32_id (x := (k : Int) + 1) (by omega) (by omega)]
          refine ⟨by omega, ?_⟩
          by_cases c2 : M 114 (2 * k + 1) = -2
          · rw [if_pos c2]
            rw [if_pos c2] at e1
            refine ⟨h2, by omega, ?_⟩
            rw [← e1, hv]; exact ih
          · rw [if_neg c2]
            rw [if_neg c2] at e1
            rw [← e1, hv]; exact ih
        refine ⟨h2, by omega, ?_⟩
        by_cases c1 : M 114 (2 * k) = -2
        · rw [if_pos c1]
          rw [if_pos c1] at e0
          exact ⟨h2, by omega, b2 _ e0.symm⟩
        · rw [if_neg c1]
          rw [if_neg c1] at e0
          exact b2 _ e0.symm
    · rw [if_neg c]
      have ek : k = n := by omega
      rw [ek]; exact hK
theorem x_179 [Inhabited gh_] {n0 n1 n2 : Nat} {ns nl : Int → Nat} (h2 : M 1 2 = 5) (h50 : M 5 0 = n0 ∧ n0 ≤ 20) (h51 : M 5 1 = n1 ∧ n1 ≤ 10) (h52 : M 5 2 = n2 ∧ n2 ≤ 6) (h36 : M 5 36 = 0) (h119 : ∀ r, 0 ≤ r → r < (n1 : Int) → 0 ≤ M 119 r ∧ M 119 r < 1048576) (h21 : (0 ≤ M 1 21 ∧ M 1 21 < 1048576) ∧ 0 ≤ M 1 22 ∧ M 1 22 < 1048576)
    (hU : ∀ s, 0 ≤ s → s < (n0 : Int) → ((bt_ (M 1 21) s ∨ ∃ r, (0 ≤ r ∧ r < (n1 : Int)) ∧ M 114 (2 * r) = -2 ∧ bt_ (M 119 r) s) ↔ U s) ∧ ((bt_ (M 1 22) s ∨ ∃ r, (0 ≤ r ∧ r < (n1 : Int)) ∧ M 114 (2 * r + 1) = -2 ∧ bt_ (M 119 r) s) ↔ W s) ∧ (0 ≤ M 56 s ∧ M 56 s < 1202) ∧ M 71 (M 56 s) = pS s)
    (hnl : ∀ T, 0 ≤ T → T < (n2 : Int) → (M 123 T = ns T ∧ ns T ≤ 12) ∧ (M 128 T = nl T ∧ nl T ≤ 10)) (hC : ∀ T l, 0 ≤ T → T < (n2 : Int) → 0 ≤ l → l < (ns T : Int) → (an_ (sr_ (M 67 T) l) 1 = 0 ↔ C T l) ∧ (0 ≤ M 59 (12 * T + l) ∧ M 59 (12 * T + l) < 1202) ∧ M 71 (M 59 (12 * T + l)) = p12 T l)
    (hM : ∀ T, 0 ≤ T → T < (n2 : Int) → ((M 120 T ≠ 0 ∨ bt_ (M 1 23) T) ↔ Md T) ∧ (0 ≤ M 58 T ∧ M 58 T < 1202) ∧ M 71 (M 58 T) = pT T ∧ 0 ≤ M 1 23 ∧ M 1 23 < 64) (hJ : ∀ T l, 0 ≤ T → T < (n2 : Int) → 0 ≤ l → l < (nl T : Int) → (an_ (sr_ (M 68 T) l) 1 = 0 ↔ J T l) ∧ (0 ≤ M 62 (10 * T + l) ∧ M 62 (10 * T + l) < 1202) ∧ M 71 (M 62 (10 * T + l)) = p10 T l)
    (hK : ∀ M', WXF M M' (inA (tyW C J Md p12 p10 pT ns nl n2) (inA (sgW U W pS n0) [])) → Kv M') : Tr_ wd0 pg0 (d + 2) 179 [.inr (.inr 1)] M (rv_ Kv) Qt := by
  obtain ⟨a1, a2⟩ := rmk_b (M := M) (o := 0) n1 h119
  obtain ⟨b1, b2⟩ := rmk_b (M := M) (o := 1) n1 h119
  refine t_179 fun V hV hW => b_179_0 (Tr_mono _) hV hW _ (l_6w hV hW h2 h51.1 h51.2 ?_ n1 0 (by omega))
  have W0 : WXF M M (inA (sgW U W pS 0) []) := ⟨fun _ _ => rfl, fun _ _ => rfl, h36, trivial⟩
  refine l_91w (U := U) (W := W) (pS := pS) hV hW h2 h50.1 h50.2 (fun s s0 s1 => ?_) (fun M' h' => ?_) n0 0 M (by omega) W0
  · obtain ⟨u1, u2, u3, u4⟩ := hU s s0 s1
    obtain ⟨o1, o2⟩ := or_b2 (m := 20) (by decide) (x := M 1 21) (y := rmk M 0 n1) h21.1 a1
    obtain ⟨p1, p2⟩ := or_b2 (m := 20) (by decide) (x := M 1 22) (y := rmk M 1 n1) h21.2 b1
    have o1' : 0 ≤ or_ (M 1 21) (rmk M 0 n1) ∧ or_ (M 1 21) (rmk M 0 n1) < 1048576 := o1
    have p1' : 0 ≤ or_ (M 1 22) (rmk M 1 n1) ∧ or_ (M 1 22) (rmk M 1 n1) < 1048576 := p1
    refine ⟨?_, ?_, u3, u4⟩
    · rw [(an_sr o1'.1 (by omega) s0 (by omega)).1, o2 s s0, a2 s s0, ← u1]
      constructor
      · intro h e; apply h; rcases e with e | ⟨r, hr, e1, e2⟩
        · exact .inl e
        · exact .inr ⟨r, hr, by rw [show 2 * r + 0 = 2 * r by omega]; exact e1, e2⟩
      · intro h e; apply h; rcases e with e | ⟨r, hr, e1, e2⟩
        · exact .inl e
        · exact .inr ⟨r, hr, by rw [show 2 * r + 0 = 2 * r by omega] at e1; exact e1, e2⟩
    · rw [(an_sr p1'.1 (by omega) s0 (by omega)).1, p2 s s0, b2 s s0, ← u2]
  · have hlen := sgW_len (U := U) (W := W) (p := pS) n0
    exact l_158w (C := C) (J := J) (Md := Md) (p12 := p12) (p10 := p10) (pT := pT) (ns := ns) (nl := nl) hV hW h2 h52.1 h52.2 hnl hC hM hJ (by rw [inA_len]; simp; omega) hK n2 0 M' (by omega) h'
end WXc
end T305_wx
section T306_qc
/-! warnings: Q's come (317): bits, what a state come to means -/
def InT (N : mm_) (T me : Int) : Prop := (0 ≤ me ∧ me < N 6 76) ∧ N 211 me = T
def CM2 (N : mm_) (T : Int) (P C : Int → Prop) : Prop := (∀ me, InT N T me → N 215 me ≠ 0 → P me) ∧ (∀ me l, InT N T me → P me → 0 ≤ l → l < N 175 T → bt_ (N 214 me) l → P (N 189 (10 * T + l)))
  ∧ (∀ me s, InT N T me → P me → 0 ≤ s → bt_ (N 213 me) s → C s) ∧ (∀ me s, InT N T me → N 215 me = 0 → 0 ≤ s → bt_ (N 212 me) s → C s → P me)
def CMT (N : mm_) (T s : Int) : Prop := ∀ P C, CM2 N T P C → C s
section QCa
variable {N N1 : mm_} {T x y s q0 q1 : Int}
theorem an_ne0 [Inhabited gh_] (hx : 0 ≤ x ∧ x < 2147483648) (hy : 0 ≤ y ∧ y < 2147483648) : an_ x y ≠ 0 ↔ ∃ s, 0 ≤ s ∧ bt_ x s ∧ bt_ y s := by
  obtain ⟨a1, a2⟩ := an_bt hx hy
  rw [bt_ne a1.1]
  constructor
  · rintro ⟨l, l0, h⟩; exact ⟨l, l0, (a2 l l0).1 h⟩
  · rintro ⟨l, l0, h⟩; exact ⟨l, l0, (a2 l l0).2 h⟩
theorem an_nt [Inhabited gh_] (hx : 0 ≤ x ∧ x < 2147483648) (hy : 0 ≤ y ∧ y < 2147483648) : an_ x (xo_ y (-1)) = 0 ↔ ∀ s, 0 ≤ s → bt_ x s → bt_ y s := by
  obtain ⟨a, ha⟩ := Int.eq_ofNat_of_zero_le hx.1
  obtain ⟨b, hb⟩ := Int.eq_ofNat_of_zero_le hy.1
  subst ha; subst hb
  have e1 : an_ (a : Int) (xo_ (b : Int) (-1)) = (BitVec.ofNat 32 a &&& (BitVec.ofNat 32 b ^^^ BitVec.allOnes 32)).toInt := by
    unfold an_ xo_
    rw [Int32.ofInt_toInt]
    show (Int32.toBitVec (_ &&& _)).toInt = _
    rw [Int32.toBitVec_and, Int32.toBitVec_xor, bv_n, bv_n]
    have : (Int32.ofInt (-1)).toBitVec = BitVec.allOnes 32 := by decide
    rw [this]
  have bit : ∀ i : Nat, (BitVec.ofNat 32 a &&& (BitVec.ofNat 32 b ^^^ BitVec.allOnes 32)).getLsbD i = (decide (i < 32) && a.testBit i && !(b.testBit i)) := fun i => by
    rw [BitVec.getLsbD_and, BitVec.getLsbD_xor, BitVec.getLsbD_allOnes, BitVec.getLsbD_ofNat, BitVec.getLsbD_ofNat]
    by_cases c : i < 32
    · simp [c]
    · simp [c]
  rw [e1]
  constructor
  · intro h s s0 hs
    have hz : (BitVec.ofNat 32 a &&& (BitVec.ofNat 32 b ^^^ BitVec.allOnes 32)) = 0#32 := BitVec.eq_of_toInt_eq (by rw [h]; rfl)
    have := bit s.toNat
    rw [hz] at this
    have hs' : a.testBit s.toNat = true := hs
    have lt : s.toNat < 32 := by
      by_cases c : s.toNat < 32
      · exact c
      · rw [Nat.testBit_lt_two_pow (Nat.lt_of_lt_of_le (by omega : a < 2 ^ 31) (Nat.pow_le_pow_right (by decide) (by omega)))] at hs'; cases hs'
    rw [hs'] at this
    simp [lt] at this
    exact this
  · intro h
    have hz : (BitVec.ofNat 32 a &&& (BitVec.ofNat 32 b ^^^ BitVec.allOnes 32)) = 0#32 := by
      apply BitVec.eq_of_getLsbD_eq
      intro i hi
      rw [bit i]
      by_cases c : a.testBit i = true
      · have := h i (by omega) (show bt_ (a : Int) i by unfold bt_; rw [Int.toNat_natCast, Int.toNat_natCast]; exact c)
        unfold bt_ at this
        rw [Int.toNat_natCast, Int.toNat_natCast] at this
        simp [this]
      · simp [c]
    rw [hz]; rfl
/-- rows of a type as an interval -/
theorem CMT_i [Inhabited gh_] (h : ∀ me, 0 ≤ me → me < N 6 76 → (N 211 me = T ↔ q0 ≤ me ∧ me < q1)) (h0 : 0 ≤ q0 ∧ q1 ≤ N 6 76) : CMT N T s ↔ CMS N T q0 q1 s := by
  have i1 : ∀ me, InT N T me ↔ q0 ≤ me ∧ me < q1 := fun me => by
    unfold InT
    constructor
    · rintro ⟨a, b⟩; exact (h me a.1 a.2).1 b
    · intro a; exact ⟨by omega, (h me (by omega) (by omega)).2 a⟩
  have e : ∀ P C, CM2 N T P C ↔ CMC N T q0 q1 P C := fun P C => by
    unfold CM2 CMC
    constructor
    · rintro ⟨a1, a2, a3, a4⟩
      exact ⟨fun me m0 m1 => a1 me ((i1 me).2 ⟨m0, m1⟩), fun me l m0 m1 => a2 me l ((i1 me).2 ⟨m0, m1⟩), fun me s m0 m1 => a3 me s ((i1 me).2 ⟨m0, m1⟩), fun me s m0 m1 => a4 me s ((i1 me).2 ⟨m0, m1⟩)⟩
    · rintro ⟨a1, a2, a3, a4⟩
      exact ⟨fun me hm => a1 me ((i1 me).1 hm).1 ((i1 me).1 hm).2, fun me l hm => a2 me l ((i1 me).1 hm).1 ((i1 me).1 hm).2, fun me s hm => a3 me s ((i1 me).1 hm).1 ((i1 me).1 hm).2, fun me s hm => a4 me s ((i1 me).1 hm).1 ((i1 me).1 hm).2⟩
  unfold CMT CMS
  exact ⟨fun h P C hc => h P C ((e P C).2 hc), fun h P C hc => h P C ((e P C).1 hc)⟩
end QCa
end T306_qc
section T307_qc
/-! warnings: Q's come (317), walked -/
def cz (N : mm_) : Nat → Int
  | 0 => 0
  | n + 1 => cz N n + (1 - N 238 n)
/-- what Q's rows of transes are, for a type -/
def BTT (N : mm_) (T : Int) (n : Nat) : Prop := (N 6 76 = n ∧ n ≤ 1300 ∧ 0 ≤ T ∧ T < 6) ∧ (∀ k, InT N T k → (0 ≤ N 213 k ∧ N 213 k < 4096) ∧ (0 ≤ N 214 k ∧ N 214 k < 1024) ∧ (N 215 k = 0 → 0 ≤ N 212 k ∧ N 212 k < 4096)) ∧ (0 ≤ N 175 T ∧ N 175 T ≤ 10) ∧ ∀ l, 0 ≤ l → l < N 175 T → InT N T (N 189 (10 * T + l))
def RCT (N0 N : mm_) (T : Int) (n : Nat) : Prop := (∀ k : Nat, k ≠ 237 → k ≠ 238 → N k = N0 k) ∧ (∀ i, i ≠ T → N 237 i = N0 237 i) ∧ (0 ≤ N 237 T ∧ N 237 T < 4096) ∧ (∀ k, 0 ≤ k → k < (n : Int) → (N 238 k = 0 ∨ N 238 k = 1) ∧ (N 238 k = 1 → N0 211 k = T)) ∧ (∀ P C, CM2 N0 T P C → (∀ k, 0 ≤ k → k < (n : Int) → N 238 k = 1 → P k) ∧ ∀ s, 0 ≤ s → bt_ (N 237 T) s → C s) ∧ ∀ k, InT N0 T k → N0 215 k ≠ 0 → N 238 k = 1
def msT (N : mm_) (T : Int) (n : Nat) : Int := cz N n + (4096 - N 237 T)
def CLT (N0 N : mm_) (T k : Int) : Prop := (N 238 k = 1 → (∀ s, 0 ≤ s → bt_ (N0 213 k) s → bt_ (N 237 T) s) ∧ ∀ l, 0 ≤ l → l < N0 175 T → bt_ (N0 214 k) l → N 238 (N0 189 (10 * T + l)) = 1) ∧ (N0 215 k = 0 → ∀ s, 0 ≤ s → bt_ (N0 212 k) s → bt_ (N 237 T) s → N 238 k = 1)
/-- the state of a pass: nothing has changed, or less is left -/
def PAS2 (N0 Ns N : mm_) (T : Int) (n : Nat) (x2 : Int) : Prop := RCT N0 N T n ∧ ((x2 = 0 ∧ N = Ns) ∨ (x2 = 1 ∧ msT N T n < msT Ns T n))
section QCb
variable {d : Nat} {Kv : mm_ → Prop} {Qt : qt_} {V : vv_} {N N0 Ns : mm_} {T k x2 : Int} {n : Nat}
theorem cz_u [Inhabited gh_] {v : Int} : ∀ n : Nat, 0 ≤ k → k < (n : Int) → cz (up_ N 238 k v) n = cz N n + (N 238 k - v)
  | 0, h0, h1 => by omega
  | n + 1, h0, h1 => by
    show cz (up_ N 238 k v) n + (1 - up_ N 238 k v 238 n) = cz N n + (1 - N 238 n) + (N 238 k - v)
    by_cases c : k = n
    · have o : ∀ m : Nat, m ≤ n → cz (up_ N 238 k v) m = cz N m := fun m => by
        induction m with
        | zero => intro _; rfl
        | succ m ih =>
          intro hm
          show cz (up_ N 238 k v) m + (1 - up_ N 238 k v 238 m) = cz N m + (1 - N 238 m)
          rw [ih (by omega), up_of2 (by omega)]
      rw [o n (Nat.le_refl _), c, up_at]; omega
    · rw [cz_u n h0 (by omega), up_of2 (by omega)]; omega
theorem cz_o [Inhabited gh_] {i v : Int} : ∀ n : Nat, cz (up_ N 237 i v) n = cz N n
  | 0 => rfl
  | n + 1 => by
    show cz (up_ N 237 i v) n + (1 - up_ N 237 i v 238 n) = cz N n + (1 - N 238 n)
    rw [cz_o n, up_ne (by decide)]
theorem cz_0 [Inhabited gh_] : ∀ n : Nat, (∀ k, 0 ≤ k → k < (n : Int) → N 238 k = 0 ∨ N 238 k = 1) → 0 ≤ cz N n
  | 0, _ => Int.le_refl _
  | n + 1, h => by
    have := cz_0 n (fun k k0 k1 => h k k0 (by omega))
    have := h n (by omega) (by omega)
    show 0 ≤ cz N n + (1 - N 238 n)
    omega
theorem or_le [Inhabited gh_] {x y : Int} (hx : 0 ≤ x ∧ x < 4096) (hy : 0 ≤ y ∧ y < 4096) : x ≤ or_ x y := by
  obtain ⟨a, ha⟩ := Int.eq_ofNat_of_zero_le hx.1
  obtain ⟨b, hb⟩ := Int.eq_ofNat_of_zero_le hy.1
  subst ha; subst hb
  rw [or_nat (by omega) (by omega)]
  exact Int.ofNat_le.2 Nat.left_le_or
/-- a trans told -/
theorem PAS_t [Inhabited gh_] (b : BTT N0 T n) (h : PAS2 N0 Ns N T n x2) (hk : InT N0 T k) (h0 : N 238 k = 0) (hP : ∀ P C, CM2 N0 T P C → P k) : PAS2 N0 Ns (up_ N 238 k 1) T n 1 := by
  obtain ⟨⟨r1, r2, r3, r4, r5, r6⟩, hm⟩ := h
  obtain ⟨hk1, hk2⟩ := hk
  rw [b.1.1] at hk1
  refine ⟨⟨fun q h1 h2 => by rw [up_ne h2]; exact r1 q h1 h2, fun i hi => by rw [up_ne (by decide)]; exact r2 i hi, by rw [up_ne (by decide)]; exact r3, fun q q0 q1 => ?_, fun P C hc => ⟨fun q q0 q1 hq => ?_, fun s s0 => by rw [up_ne (by decide)]; exact (r5 P C hc).2 s s0⟩, fun q hq hq2 => ?_⟩, .inr ⟨rfl, ?_⟩⟩
  · by_cases c : q = k
    · rw [c, up_at]; exact ⟨.inr rfl, fun _ => hk2⟩
    · rw [up_of2 c]; exact r4 q q0 q1
  · by_cases c : q = k
    · rw [c]; exact hP P C hc
    · rw [up_of2 c] at hq; exact (r5 P C hc).1 q q0 q1 hq
  · by_cases c : q = k
    · rw [c, up_at]
    · rw [up_of2 c]; exact r6 q hq hq2
  · have : msT (up_ N 238 k 1) T n = msT N T n - 1 := by
      unfold msT
      rw [cz_u n hk1.1 hk1.2, up_ne (by decide), h0]; omega
    rcases hm with ⟨_, e⟩ | ⟨_, e⟩
    · rw [← e]; omega
    · omega
/-- states told -/
theorem PAS_s [Inhabited gh_] {w : Int} (h : PAS2 N0 Ns N T n x2) (hw : 0 ≤ w ∧ w < 4096) (hC : ∀ P C, CM2 N0 T P C → ∀ s, 0 ≤ s → bt_ w s → C s) (hn : ¬ ∀ s, 0 ≤ s → bt_ w s → bt_ (N 237 T) s) : PAS2 N0 Ns (up_ N 237 T (or_ (N 237 T) w)) T n 1 := by
  obtain ⟨⟨r1, r2, r3, r4, r5, r6⟩, hm⟩ := h
  obtain ⟨o1, o2⟩ := or_b2 (m := 12) (by decide) (x := N 237 T) (y := w) r3 hw
  have o1' : 0 ≤ or_ (N 237 T) w ∧ or_ (N 237 T) w < 4096 := o1
  refine ⟨⟨fun q h1 h2 => by rw [up_ne h1]; exact r1 q h1 h2, fun i hi => by rw [up_of2 hi]; exact r2 i hi, by rw [up_at]; exact o1', fun q q0 q1 => by rw [up_ne (by decide)]; exact r4 q q0 q1, fun P C hc => ⟨fun q q0 q1 => by rw [up_ne (by decide)]; exact (r5 P C hc).1 q q0 q1, fun s s0 hs => ?_⟩, fun q hq hq2 => by rw [up_ne (by decide)]; exact r6 q hq hq2⟩, .inr ⟨rfl, ?_⟩⟩
  · rw [up_at] at hs
    rcases (o2 s s0).1 hs with e | e
    · exact (r5 P C hc).2 s s0 e
    · exact hC P C hc s s0 e
  · have lt : N 237 T < or_ (N 237 T) w := by
      have le : N 237 T ≤ or_ (N 237 T) w := or_le r3 hw
      have ne : or_ (N 237 T) w ≠ N 237 T := fun e => hn (fun s s0 hs => by
        have := (o2 s s0).2 (.inr hs)
        rw [e] at this; exact this)
      omega
    have : msT (up_ N 237 T (or_ (N 237 T) w)) T n < msT N T n := by
      unfold msT
      rw [cz_o, up_at]; omega
    rcases hm with ⟨_, e⟩ | ⟨_, e⟩
    · rw [← e]; omega
    · omega
end QCb
end T307_qc
section T308_qc
/-! warnings: Q's come (317), its passes -/
section QCc
variable {d : Nat} {Kv : mm_ → Prop} {Qt : qt_} {V : vv_} {N N0 Ns : mm_} {T k x2 : Int} {n : Nat}
/-- labels of a trans that is told (V 177) -/
theorem l_177 [Inhabited gh_] (hV : Cl_ wd0 (Tr_ wd0 pg0 d) V (rv_ Kv) Qt m_317) (hW : Wk_ V) (b : BTT N0 T n) {Z : Prop} (hk : InT N0 T k) (hn : ∀ x2 N, PAS2 N0 Ns N T n x2 → (x2 = 0 → Z ∧ ∀ l, 0 ≤ l → l < N0 175 T → bt_ (N0 214 k) l → Ns 238 (N0 189 (10 * T + l)) = 1) → V 63 [rr 6, ii T, ii x2, ii (k + 1), none, none] [] N) :
    ∀ (j : Nat) (l : Int) (x2 : Int) (N : mm_), N0 175 T - l ≤ (j : Int) → 0 ≤ l → PAS2 N0 Ns N T n x2 → N 238 k = 1 → (x2 = 0 → Z ∧ ∀ i, 0 ≤ i → i < l → i < N0 175 T → bt_ (N0 214 k) i → Ns 238 (N0 189 (10 * T + i)) = 1) → V 177 [rr 6, ii T, ii x2, ii k, ii l, none] [] N
  | j, l, x2, N, hj, l0, h, hk1, hc => by
    obtain ⟨⟨b1, b2, bT0, bT1⟩, b3, b4, b5⟩ := b
    have b : BTT N0 T n := ⟨⟨b1, b2, bT0, bT1⟩, b3, b4, b5⟩
    have hkn := hk.1
    rw [b1] at hkn
    have fr := h.1.1
    refine b_317_177 (Tr_mono _) hV hW _ _ _ _ _ ⟨by omega, ?_⟩
    rw [fr 175 (by decide) (by decide), fr 189 (by decide) (by decide), fr 214 (by decide) (by decide)]
    by_cases c : l < N0 175 T
    · rw [if_pos c, w32_id (x := 10 * T) (by omega) (by omega), w32_id (x := 10 * T + l) (by omega) (by omega), w32_id (x := l + 1) (by omega) (by omega)]
      have i1 := b5 l l0 c
      have i2 := i1.1
      rw [b1] at i2
      have b14 := (b3 k hk).2.1
      have an := (an_sr (c := N0 214 k) (s := l) b14.1 (by omega) l0 (by omega)).2
      have nxt : ∀ x2' N', PAS2 N0 Ns N' T n x2' → N' 238 k = 1 → (x2' = 0 → Z ∧ ∀ i, 0 ≤ i → i < l + 1 → i < N0 175 T → bt_ (N0 214 k) i → Ns 238 (N0 189 (10 * T + i)) = 1) → V 177 [rr 6, ii T, ii x2', ii k, ii (l + 1), none] [] N' := fun x2' N' h' hk' hc' => by
        cases j with
        | zero => omega
        | succ j => exact l_177 hV hW b hk hn j (l + 1) x2' N' (by omega) (by omega) h' hk' hc'
      refine ⟨by omega, by omega, ?_⟩
      by_cases ca : an_ (sr_ (N0 214 k) l) 1 = 1
      · rw [if_pos ca]
        have ba := an.1 ca
        have r4 := (h.1.2.2.2.1 _ i2.1 i2.2).1
        refine ⟨by omega, fun _ => ?_⟩
        by_cases cz' : N 238 (N0 189 (10 * T + l)) = 0
        · rw [if_pos cz']
          refine ⟨⟨by omega, .inr rfl⟩, nxt 1 _ (PAS_t b h i1 cz' (fun P C hcm => ?_)) ?_ (fun e => by omega)⟩
          · exact hcm.2.1 k l hk ((h.1.2.2.2.2.1 P C hcm).1 k hkn.1 hkn.2 hk1) l0 c ba
          · by_cases ck : k = N0 189 (10 * T + l)
            · rw [ck, up_at]
            · rw [up_of2 ck]; exact hk1
        · rw [if_neg cz']
          refine nxt x2 N h hk1 (fun e => ⟨(hc e).1, fun i i0 i1' i2' i3 => ?_⟩)
          by_cases ci : i = l
          · rw [ci]
            rcases h.2 with ⟨_, e2⟩ | ⟨e2, _⟩
            · rw [← e2]; omega
            · omega
          · exact (hc e).2 i i0 (by omega) i2' i3
      · rw [if_neg ca]
        refine nxt x2 N h hk1 (fun e => ⟨(hc e).1, fun i i0 i1' i2' i3 => ?_⟩)
        by_cases ci : i = l
        · rw [ci] at i3; exact absurd (an.2 i3) ca
        · exact (hc e).2 i i0 (by omega) i2' i3
    · rw [if_neg c, w32_id (x := k + 1) (by omega) (by omega)]
      exact hn x2 N h (fun e => ⟨(hc e).1, fun i i0 i1 i2 => (hc e).2 i i0 (by omega) i1 i2⟩)
/-- a pass over all transes (V 63) -/
theorem l_63 [Inhabited gh_] (hV : Cl_ wd0 (Tr_ wd0 pg0 d) V (rv_ Kv) Qt m_317) (hW : Wk_ V) (b : BTT N0 T n) (hs : RCT N0 Ns T n) (hend : ∀ x2 N, PAS2 N0 Ns N T n x2 → (x2 = 0 → ∀ k, InT N0 T k → CLT N0 Ns T k) → V 55 [rr 6, ii T, ii x2, none, none, none] [] N) :
    ∀ (j : Nat) (k x2 : Int) (N : mm_), (n : Int) - k ≤ (j : Int) → 0 ≤ k → PAS2 N0 Ns N T n x2 → (x2 = 0 → ∀ i, InT N0 T i → i < k → CLT N0 Ns T i) → V 63 [rr 6, ii T, ii x2, ii k, none, none] [] N
  | j, k, x2, N, hj, k0, h, hc => by
    obtain ⟨⟨b1, b2, bT0, bT1⟩, b3, b4, b5⟩ := id b
    have fr := h.1.1
    refine b_317_63 (Tr_mono _) hV hW _ _ _ _ ?_
    rw [fr 6 (by decide) (by decide), b1, fr 211 (by decide) (by decide)]
    by_cases c : k < (n : Int)
    · rw [if_pos c, w32_id (x := k + 1) (by omega) (by omega)]
      have nxt : ∀ x2' N', PAS2 N0 Ns N' T n x2' → (x2' = 0 → ∀ i, InT N0 T i → i < k + 1 → CLT N0 Ns T i) → V 63 [rr 6, ii T, ii x2', ii (k + 1), none, none] [] N' := fun x2' N' h' hc' => by
        cases j with
        | zero => omega
        | succ j => exact l_63 hV hW b hs hend j (k + 1) x2' N' (by omega) (by omega) h' hc'
      refine ⟨by omega, ?_⟩
      by_cases cT : N0 211 k = T
      · rw [if_pos cT]
        have hk : InT N0 T k := ⟨by rw [b1]; exact ⟨k0, c⟩, cT⟩
        obtain ⟨b13, b14, b12⟩ := b3 k hk
        -- behind the first test
        have mid : ∀ x2' N', PAS2 N0 Ns N' T n x2' → (x2' = 0 → (x2 = 0 ∧ (N0 215 k = 0 → ∀ s, 0 ≤ s → bt_ (N0 212 k) s → bt_ (Ns 237 T) s → Ns 238 k = 1))) → V 127 [rr 6, ii T, ii x2', ii k, none, none] [] N' := fun x2' N' h' h12 => by
          have fr' := h'.1.1
          refine b_317_127 (Tr_mono _) hV hW _ _ _ _ ⟨by omega, fun _ => ?_⟩
          rw [fr' 213 (by decide) (by decide), w32_id (x := k + 1) (by omega) (by omega)]
          by_cases c8 : N' 238 k = 0
          · rw [if_pos c8]
            refine nxt x2' N' h' (fun e i hi i1 => ?_)
            by_cases ci : i = k
            · have eN : N' = Ns := by
                rcases h'.2 with ⟨_, e2⟩ | ⟨e2, _⟩
                · exact e2
                · omega
              rw [ci]
              refine ⟨fun e1 => ?_, (h12 e).2⟩
              rw [← eN, c8] at e1; omega
            · exact hc (h12 e).1 i hi (by omega)
          · rw [if_neg c8]
            have k1 : N' 238 k = 1 := by
              rcases (h'.1.2.2.2.1 k k0 c).1 with e | e
              · exact absurd e c8
              · exact e
            have r3 := h'.1.2.2.1
            have lab : ∀ x3 N3, PAS2 N0 Ns N3 T n x3 → N3 238 k = 1 → (x3 = 0 → x2' = 0 ∧ ∀ s, 0 ≤ s → bt_ (N0 213 k) s → bt_ (Ns 237 T) s) → V 177 [rr 6, ii T, ii x3, ii k, ii 0, none] [] N3 := fun x3 N3 h3 hk3 h13 => by
              refine l_177 (Z := x2' = 0 ∧ ∀ s, 0 ≤ s → bt_ (N0 213 k) s → bt_ (Ns 237 T) s) hV hW b hk (fun x4 N4 h4 hl4 => nxt x4 N4 h4 (fun e i hi i1 => ?_)) 10 0 x3 N3 (by omega) (Int.le_refl _) h3 hk3 (fun e => ⟨h13 e, fun i i0 i1 => by omega⟩)
              obtain ⟨⟨z1, z2⟩, z3⟩ := hl4 e
              by_cases ci : i = k
              · rw [ci]
                exact ⟨fun _ => ⟨z2, z3⟩, (h12 z1).2⟩
              · exact hc (h12 z1).1 i hi (by omega)
            refine ⟨by omega, by omega, ?_⟩
            by_cases ca : an_ (N0 213 k) (xo_ (N' 237 T) (-1)) = 0
            · rw [if_pos ca]
              refine lab x2' N' h' k1 (fun e => ⟨e, fun s s0 hs' => ?_⟩)
              have := (an_nt ⟨b13.1, by omega⟩ ⟨r3.1, by omega⟩).1 ca s s0 hs'
              rcases h'.2 with ⟨_, e2⟩ | ⟨e2, _⟩
              · rw [← e2]; exact this
              · omega
            · rw [if_neg ca]
              refine ⟨by omega, by omega, by omega, lab 1 _ (PAS_s h' b13 (fun P C hcm s s0 hs' => ?_) (fun e => ca ((an_nt ⟨b13.1, by omega⟩ ⟨r3.1, by omega⟩).2 e))) (by rw [up_ne (by decide)]; exact k1) (fun e => by omega)⟩
              exact hcm.2.2.1 k s hk ((h'.1.2.2.2.2.1 P C hcm).1 k k0 c k1) s0 hs'
        refine ⟨by omega, fun _ => ?_⟩
        have eNs : x2 = 0 → N = Ns := fun e => by
          rcases h.2 with ⟨_, e2⟩ | ⟨e2, _⟩
          · exact e2
          · omega
        rw [fr 215 (by decide) (by decide), fr 212 (by decide) (by decide)]
        by_cases c8 : N 238 k = 0
        · rw [if_pos c8]
          refine ⟨by omega, fun _ => ?_⟩
          by_cases c5 : N0 215 k = 0
          · rw [if_pos c5]
            have b12' := b12 c5
            have r3 := h.1.2.2.1
            refine ⟨by omega, by omega, ?_⟩
            by_cases ca : an_ (N0 212 k) (N 237 T) = 0
            · rw [if_pos ca]
              refine mid x2 N h (fun e => ⟨e, fun _ s s0 h1 h2 => ?_⟩)
              exact absurd ca ((an_ne0 ⟨b12'.1, by omega⟩ ⟨r3.1, by omega⟩).2 ⟨s, s0, h1, by rw [eNs e]; exact h2⟩)
            · rw [if_neg ca]
              refine ⟨⟨by omega, .inr rfl⟩, mid 1 _ (PAS_t b h hk c8 (fun P C hcm => ?_)) (fun e => by omega)⟩
              obtain ⟨s, s0, h1, h2⟩ := (an_ne0 ⟨b12'.1, by omega⟩ ⟨r3.1, by omega⟩).1 ca
              exact hcm.2.2.2 k s hk c5 s0 h1 ((h.1.2.2.2.2.1 P C hcm).2 s s0 h2)
          · rw [if_neg c5]
            exact mid x2 N h (fun e => ⟨e, fun e5 => absurd e5 c5⟩)
        · rw [if_neg c8]
          refine mid x2 N h (fun e => ⟨e, fun _ s _ _ _ => ?_⟩)
          rcases (h.1.2.2.2.1 k k0 c).1 with e1 | e1
          · exact absurd e1 c8
          · rw [← eNs e]; exact e1
      · rw [if_neg cT]
        refine nxt x2 N h (fun e i hi i1 => ?_)
        by_cases ci : i = k
        · rw [ci] at hi; exact absurd hi.2 cT
        · exact hc e i hi (by omega)
    · rw [if_neg c]
      refine hend x2 N h (fun e i hi => hc e i hi ?_)
      have := hi.1
      rw [b1] at this; omega
end QCc
end T308_qc
section T309_qc
/-! warnings: Q's come (317), whole -/
section QCd
variable {d : Nat} {Kv : mm_ → Prop} {Qt : qt_} {V : vv_} {N N0 Ns : mm_} {T k x2 : Int} {n : Nat}
theorem ms_0 [Inhabited gh_] (h : RCT N0 N T n) : 0 ≤ msT N T n := by
  have := cz_0 (N := N) n (fun k k0 k1 => (h.2.2.2.1 k k0 k1).1)
  have := h.2.2.1
  unfold msT; omega
/-- nothing more to tell: what is told is what can be come to -/
theorem CLT_ok [Inhabited gh_] (b : BTT N0 T n) (h : RCT N0 N T n) (hc : ∀ k, InT N0 T k → CLT N0 N T k) {s : Int} (s0 : 0 ≤ s) : bt_ (N 237 T) s ↔ CMT N0 T s := by
  constructor
  · intro hs P C hcm; exact (h.2.2.2.2.1 P C hcm).2 s s0 hs
  · intro hs
    refine hs (fun k => N 238 k = 1) (fun s => 0 ≤ s → bt_ (N 237 T) s) ⟨fun me hm h5 => h.2.2.2.2.2 me hm h5, fun me l hm h1 l0 l1 hb => ((hc me hm).1 h1).2 l l0 l1 hb, fun me s hm h1 s0 hb _ => ((hc me hm).1 h1).1 s s0 hb, fun me s hm h5 s0 hb hcs => (hc me hm).2 h5 s s0 hb (hcs s0)⟩ s0
theorem l_55 [Inhabited gh_] (hV : Cl_ wd0 (Tr_ wd0 pg0 d) V (rv_ Kv) Qt m_317) (hW : Wk_ V) (b : BTT N0 T n) (hK : ∀ N', (∀ k : Nat, k ≠ 237 → k ≠ 238 → N' k = N0 k) → (∀ i, i ≠ T → N' 237 i = N0 237 i) → (0 ≤ N' 237 T ∧ N' 237 T < 4096) → (∀ s, 0 ≤ s → (bt_ (N' 237 T) s ↔ CMT N0 T s)) → Kv N') :
    ∀ (j : Nat) (Ns : mm_), msT Ns T n ≤ (j : Int) → RCT N0 Ns T n → V 55 [rr 6, ii T, ii 1, none, none, none] [] Ns
  | j, Ns, hj, hs => by
    refine b_317_55 (Tr_mono _) hV hW _ _ _ ?_
    rw [if_neg (by decide)]
    refine l_63 hV hW b hs (fun x2 N h hc => ?_) n 0 0 Ns (by omega) (Int.le_refl _) ⟨hs, .inl ⟨rfl, rfl⟩⟩ (fun _ i hi i1 => by have := hi.1; omega)
    rcases h.2 with ⟨e, e2⟩ | ⟨e, e2⟩
    · rw [e]
      refine b_317_55 (Tr_mono _) hV hW _ _ _ ?_
      rw [if_pos rfl]
      rw [e2]
      exact rv_i (hK Ns hs.1 hs.2.1 hs.2.2.1 (fun s s0 => CLT_ok b hs (hc e) s0))
    · rw [e]
      have m0 := ms_0 h.1
      cases j with
      | zero => omega
      | succ j => exact l_55 hV hW b hK j N (by omega) h.1
/-- the first telling -/
theorem l_9c [Inhabited gh_] (hV : Cl_ wd0 (Tr_ wd0 pg0 d) V (rv_ Kv) Qt m_317) (hW : Wk_ V) (b : BTT N0 T n) (hK : ∀ N, RCT N0 N T n → V 55 [rr 6, ii T, ii 1, none, none, none] [] N) :
    ∀ (j : Nat) (k : Int) (N : mm_), (n : Int) - k ≤ (j : Int) → 0 ≤ k → k ≤ n → (∀ q : Nat, q ≠ 237 → q ≠ 238 → N q = N0 q) → (∀ i, i ≠ T → N 237 i = N0 237 i) → N 237 T = 0 → (∀ i, 0 ≤ i → i < k → (N 238 i = 0 ∧ ¬ (N0 211 i = T ∧ N0 215 i ≠ 0)) ∨ (N 238 i = 1 ∧ N0 211 i = T ∧ N0 215 i ≠ 0)) → V 9 [rr 6, ii T, ii k, none, none, none] [] N
  | j, k, N, hj, k0, kn, h1, h2, h3, h4 => by
    obtain ⟨⟨b1, b2, bT0, bT1⟩, b3, b4, b5⟩ := id b
    refine b_317_9 (Tr_mono _) hV hW _ _ _ ?_
    rw [h1 6 (by decide) (by decide), b1, h1 211 (by decide) (by decide), h1 215 (by decide) (by decide)]
    by_cases c : k < (n : Int)
    · rw [if_pos c, w32_id (x := k + 1) (by omega) (by omega)]
      have nxt : ∀ v : Int, ((v = 0 ∧ ¬ (N0 211 k = T ∧ N0 215 k ≠ 0)) ∨ (v = 1 ∧ N0 211 k = T ∧ N0 215 k ≠ 0)) → V 9 [rr 6, ii T, ii (k + 1), none, none, none] [] (up_ N 238 k v) := fun v hv => by
        cases j with
        | zero => omega
        | succ j =>
          refine l_9c hV hW b hK j (k + 1) _ (by omega) (by omega) (by omega) (fun q e1 e2 => by rw [up_ne e2]; exact h1 q e1 e2) (fun i hi => by rw [up_ne (by decide)]; exact h2 i hi) (by rw [up_ne (by decide)]; exact h3) (fun i i0 i1 => ?_)
          by_cases ci : i = k
          · rw [ci, up_at]; exact hv
          · rw [up_of2 ci]; exact h4 i i0 (by omega)
      refine ⟨by omega, ?_⟩
      by_cases cT : N0 211 k = T
      · rw [if_pos cT]
        refine ⟨by omega, fun _ => ?_⟩
        by_cases c5 : N0 215 k = 0
        · rw [if_pos c5]; exact ⟨⟨by omega, .inl rfl⟩, nxt 0 (.inl ⟨rfl, fun e => e.2 c5⟩)⟩
        · rw [if_neg c5]; exact ⟨⟨by omega, .inr rfl⟩, nxt 1 (.inr ⟨rfl, cT, c5⟩)⟩
      · rw [if_neg cT]; exact ⟨⟨by omega, .inl rfl⟩, nxt 0 (.inl ⟨rfl, fun e => cT e.1⟩)⟩
    · rw [if_neg c]
      have ek : k = n := by omega
      rw [ek] at h4
      refine hK N ⟨h1, h2, by rw [h3]; decide, fun i i0 i1 => ?_, fun P C hcm => ⟨fun i i0 i1 hi => ?_, fun s _ hs => ?_⟩, fun i hi h5 => ?_⟩
      · rcases h4 i i0 i1 with ⟨e, _⟩ | ⟨e, e2, _⟩
        · exact ⟨.inl e, fun e1 => by omega⟩
        · exact ⟨.inr e, fun _ => e2⟩
      · rcases h4 i i0 i1 with ⟨e, _⟩ | ⟨e, e2, e3⟩
        · omega
        · exact hcm.1 i ⟨by rw [b1]; exact ⟨i0, i1⟩, e2⟩ e3
      · rw [h3] at hs; exact absurd hs bt_0
      · have hi1 := hi.1
        rw [b1] at hi1
        rcases h4 i hi1.1 hi1.2 with ⟨_, e⟩ | ⟨e, _⟩
        · exact absurd ⟨hi.2, h5⟩ e
        · exact e
theorem q_317 [Inhabited gh_] (b : BTT N T n) (hK : ∀ N', (∀ k : Nat, k ≠ 237 → k ≠ 238 → N' k = N k) → (∀ i, i ≠ T → N' 237 i = N 237 i) → (0 ≤ N' 237 T ∧ N' 237 T < 4096) → (∀ s, 0 ≤ s → (bt_ (N' 237 T) s ↔ CMT N T s)) → Kv N') : Tr_ wd0 pg0 (d + 1) 317 [.inr (.inr 6), .inl T] N (rv_ Kv) Qt := by
  have bT := b.1.2.2
  refine t_317 fun V hV hW => b_317_0 (Tr_mono _) hV hW _ _ ⟨bT, ?_⟩
  refine l_9c hV hW b (fun N1 h1 => l_55 hV hW b hK (msT N1 T n).toNat N1 (by have := ms_0 h1; omega) h1) n 0 (up_ N 237 T 0) (by omega) (Int.le_refl _) (by omega) (fun q e1 _ => up_ne e1) (fun i hi => up_of2 hi) up_at (fun i i0 i1 => by omega)
end QCd
end T309_qc
