section T231_pr
/-! parameters of a process: the loop (X 126 V 296 | Q 253 V 10) -/
def DMT (M : mm_) : Int → Bool := fun t => decide (fi_ (fun i => M 60 (8 * M 1 18 + i)) t (M 124 (M 1 18)).toNat 0 ≠ -1 ∨ fi_ (fun i => M 61 (3 * M 1 18 + i)) t (M 126 (M 1 18)).toNat 0 ≠ -1)
def DOK (b : Int) (dm : Int → Bool) (M M' : mm_) : Prop := (b = 0 → ∀ t, DCL M' (M' 1 18) t → dm t = true) ∧ (b = 1 → dm = DMT M)
def paT (κ : Int → Int) (dm : Int → Bool) (s : sj_) : Option (sj_ ⊕ sj_) := (gS s.1).bind fun a1 => if s.2 = 3 then none else (tS κ 100 a1).bind fun a2 => if dm a1 then (tS κ 258 a2).bind fun a3 => (srS κ a3).bind fun a4 => if κ a4 = 244 then some (.inl (a4, s.2 + 1)) else (tS κ 241 a4).bind fun a5 => some (.inr (a5, s.2 + 1)) else none
def PAS (κ : Int → Int) (dm : Int → Bool) (s : sj_) : Option sj_ := LQ (paT κ dm) s
section PAs
variable {κ : Int → Int} {dm : Int → Bool} {a j : Int} {M M1 M2 N N1 : mm_} {b F F' : Int}
theorem DMT_D [Inhabited gh_] {t : Int} (h : DMT M t = true) : DCL M (M 1 18) t := by
  unfold DMT at h
  rw [decide_eq_true_eq] at h
  rcases h with h | h
  · rcases fi_r (fun i => M 60 (8 * M 1 18 + i)) t (M 124 (M 1 18)).toNat 0 with e | ⟨e1, e2, e3⟩
    · exact absurd e h
    · exact .inl ⟨_, ⟨e1, by omega⟩, e3⟩
  · rcases fi_r (fun i => M 61 (3 * M 1 18 + i)) t (M 126 (M 1 18)).toNat 0 with e | ⟨e1, e2, e3⟩
    · exact absurd e h
    · exact .inr ⟨_, ⟨e1, by (clear h e3; omega)⟩, e3⟩
theorem DMT_c [Inhabited gh_] (h : PHF b F F' M N M1 N1) (hb : b = 1) : DMT M1 = DMT M := by
  have e := (h.2.2.1 hb).1
  unfold DMT
  rw [h.1.2.1 18 (by decide), e 60 (by decide), e 124 (by decide), e 61 (by decide), e 126 (by decide)]
theorem DOK_s [Inhabited gh_] {F2 F3 : Int} {N2 : mm_} (h1 : PHF b F F' M N M1 N1) (h2 : PHF b F2 F3 M1 N1 M2 N2) (h : DOK b dm M M2) : DOK b dm M M1 ∧ DOK b dm M1 M2 := by
  have e18 := h2.1.2.1 18 (by decide)
  refine ⟨⟨fun hb t ht => h.1 hb t (by rw [e18]; exact h2.2.2.2.2.2.1 t ht), h.2⟩, ⟨h.1, fun hb => by rw [DMT_c h1 hb]; exact h.2 hb⟩⟩
theorem paT_l [Inhabited gh_] (s s' : sj_) (h0 : 0 ≤ s.1) (h1 : s.1 ≤ 1200) (h : paT κ dm s = some (.inl s')) : s.1 + 1 ≤ s'.1 ∧ s'.1 ≤ 1200 := by
  unfold paT at h
  obtain ⟨x1, e1, h⟩ := bind_s h
  have g1 := gS_s e1
  split at h
  · cases h
  · obtain ⟨x2, e2, h⟩ := bind_s h
    have g2 := tS_s e2
    split at h
    · obtain ⟨x3, e3, h⟩ := bind_s h
      have g3 := tS_s e3
      obtain ⟨x4, e4, h⟩ := bind_s h
      unfold srS at e4
      split at e4
      · have g4 := gS_s e4
        split at h
        · injection h with h; injection h with h; rw [← h]; show s.1 + 1 ≤ x4 ∧ x4 ≤ 1200; omega
        · obtain ⟨x5, e5, h⟩ := bind_s h
          injection h with h; cases h
      · cases e4
    · cases h
theorem PAS_u [Inhabited gh_] (h0 : 0 ≤ a) (h1 : a ≤ 1200) : PAS κ dm (a, j) = (paT κ dm (a, j)).bind (lk9 (PAS κ dm)) := LQ_u (step := paT κ dm) (fun s => s.1) (fun s s' => paT_l s s') (s := (a, j)) h0 h1
theorem paT_y [Inhabited gh_] {L : sj_ → Option sj_} (h12 : a < 1200) (hj : j ≠ 3) : (paT κ dm (a, j)).bind (lk9 L) = (tS κ 100 (a + 1)).bind fun a2 => if dm (a + 1) then (tS κ 258 a2).bind fun a3 => (srS κ a3).bind fun a4 => if κ a4 = 244 then L (a4, j + 1) else (tS κ 241 a4).bind fun a5 => some (a5, j + 1) else none := by
  unfold paT
  simp only [gS_e h12, Option.bind_some, if_neg hj]
  cases tS κ 100 (a + 1) with
  | none => rfl
  | some x2 =>
    rw [Option.bind_some, Option.bind_some]
    by_cases cd : dm (a + 1) = true
    · rw [if_pos cd, if_pos cd]
      cases tS κ 258 x2 with
      | none => rfl
      | some x3 =>
        rw [Option.bind_some, Option.bind_some]
        cases srS κ x3 with
        | none => rfl
        | some x4 =>
          rw [Option.bind_some, Option.bind_some]
          by_cases c : κ x4 = 244
          · rw [if_pos c, if_pos c]; rfl
          · rw [if_neg c, if_neg c]
            cases tS κ 241 x4 with
            | none => rfl
            | some x5 => rfl
    · rw [if_neg cd, if_neg cd]; rfl
theorem PAS_e [Inhabited gh_] (h0 : 0 ≤ a) (h12 : a < 1200) (hj : j ≠ 3) : PAS κ dm (a, j) = (tS κ 100 (a + 1)).bind fun a2 => if dm (a + 1) then (tS κ 258 a2).bind fun a3 => (srS κ a3).bind fun a4 => if κ a4 = 244 then PAS κ dm (a4, j + 1) else (tS κ 241 a4).bind fun a5 => some (a5, j + 1) else none := (PAS_u h0 (Int.le_of_lt h12)).trans (paT_y h12 hj)
theorem PAS_3 [Inhabited gh_] (h0 : 0 ≤ a) (h1 : a ≤ 1200) : PAS κ dm (a, 3) = none := by
  have e := PAS_u (κ := κ) (dm := dm) (j := 3) h0 h1
  have e2 : paT κ dm (a, 3) = none := by
    unfold paT
    cases gS a with
    | none => simp only [Option.bind_none]
    | some a3 => simp only [Option.bind_some, if_true]
  rw [e2, Option.bind_none] at e
  exact e
theorem PAS_g [Inhabited gh_] (h0 : 0 ≤ a) (h1 : a ≤ 1200) (h : PAS κ dm (a, j) ≠ none) : a < 1200 := by
  have e := PAS_u (κ := κ) (dm := dm) (j := j) h0 h1
  rw [e] at h
  have h := bind_n h
  unfold paT at h
  exact gS_n (bind_n h)
end PAs
/-- X's rest behind the parameters -/
def R322 (V : vv_) (Qt : qt_) (x1 x2 x3 : Int) (M5 : mm_) : Prop := M5 1 2 = 5 ∧ (0 ≤ M5 1 18 ∧ M5 1 18 < 6) ∧ Tr_ wd0 pg0 130 121 [.inr (.inr 1), .inl 59] (up_ (up_ M5 1 6 (w32 ((M5 1 6) - 1))) 122 (M5 1 18) (w32 (x3 + 1))) (rv_ fun M6 => V 399 [rr 1, ii x1, ii x2, ii (w32 (x3 + 1)), none, none, none] [] M6) Qt
def q53 (dq : Nat) (j : Int) (N : mm_) (G : Int → mm_ → Prop) (Qt : qt_) : Prop := ∀ V : vv_, Cl_ wd0 (Tr_ wd0 pg0 (dq + 17)) V (ri_ G) Qt m_253 → Wk_ V → V 10 [rr 6, ii j, ii 1, none, none, none] [] (q1_ (nx_ N))
def q53e (dq : Nat) (j : Int) (N : mm_) (G : Int → mm_ → Prop) (Qt : qt_) : Prop := ∀ V : vv_, Cl_ wd0 (Tr_ wd0 pg0 (dq + 17)) V (ri_ G) Qt m_253 → Wk_ V → V 10 [rr 6, ii j, ii 0, none, none, none] [] (q1_ N)
section PAt
variable {dq : Nat} {N : mm_} {x1 x2 x3 : Int} {G : Int → mm_ → Prop} {Qtq : qt_} {V : vv_}
theorem q53_s [Inhabited gh_] (hV : Cl_ wd0 (Tr_ wd0 pg0 (dq + 17)) V (ri_ G) Qtq m_253) (hW : Wk_ V) (hs : sp_ N) (h : ∀ v, G v N) : V 10 [rr 6, ii x1, ii x2, none, none, none] [] N := by
  refine b_253_10 (Tr_mono _) hV hW _ _ _ ?_
  by_cases c : x2 = 0
  · rw [if_pos c]; exact q_243s hs (ri_i (h _))
  · rw [if_neg c]; exact q_227s hs (by rw [if_neg (by decide)]; exact q_243s hs (ri_i (h _)))
theorem q49_s [Inhabited gh_] (hV : Cl_ wd0 (Tr_ wd0 pg0 (dq + 17)) V (ri_ G) Qtq m_253) (hW : Wk_ V) (hs : sp_ N) (h : ∀ v, G v N) : V 49 [rr 6, ii x1, ii x2, ii x3, none, none] [] N := b_253_49 (Tr_mono _) hV hW _ _ _ _ (q_227s hs (by rw [if_neg (by decide)]; exact ri_i (h _)))
end PAt
end T231_pr
section T232_pr
/-! a variable: from its name to its sort, both passes -/
/-- Q between the name and the sort of a variable -/
def vB_ (b : Int) (N : mm_) (n t : Int) : mm_ := if b = 0 then vN_ N n t else N
/-- behind a variable -/
def vM_ (b : Int) (M N : mm_) (t s z : Int) : mm_ := if b = 0 then vX_ (nd_ M N t) t s z else M
def vQ_ (b : Int) (N : mm_) (n t s z : Int) : mm_ := if b = 0 then vA_ N n t s z else N
def vF_ (b F : Int) (M N : mm_) (t : Int) : Int := if b = 0 then Fd_ F M N t else F
section VW
variable {d : Nat} {b F : Int} {M N : mm_} {a t n s z l x4 : Int} {Kv : mm_ → Prop} {Qt : qt_}
theorem vB_6 [Inhabited gh_] : vB_ b N n t 6 = N 6 := by
  unfold vB_; split
  · unfold vN_; rw [up_ne (by decide), up_ne (by decide), up_ne (by decide)]
  · rfl
theorem vB_r [Inhabited gh_] {r : Nat} (h : r ∉ [171, 177, 181]) : vB_ b N n t r = N r := by
  unfold vB_; split
  · unfold vN_; rw [up_ne (fun e => h (by rw [e]; decide)), up_ne (fun e => h (by rw [e]; decide)), up_ne (fun e => h (by rw [e]; decide))]
  · rfl
theorem vB_nx [Inhabited gh_] : nx_ (vB_ b N n t) = vB_ b (nx_ N) n t := by
  unfold vB_; split
  · exact vN_nx.symm
  · rfl
theorem vB_q1 [Inhabited gh_] : vB_ b (q1_ N) n t = q1_ (vB_ b N n t) := by
  unfold vB_; split
  · exact vN_q1
  · rfl
theorem ER_vB [Inhabited gh_] {o : Int} (h : ER b F M N a o) : ER b F M (vB_ b N n t) a o := ER_Q h (by rw [vB_6]) (by rw [vB_6]) (by rw [vB_6]) (by rw [vB_6]) (by rw [vB_6])
theorem Tks_vB [Inhabited gh_] (h : Tks M N) : Tks M (vB_ b N n t) := Tks_r h (fun _ _ => rfl) (fun r hr => vB_r (by revert hr; simp only [List.mem_cons, List.not_mem_nil, or_false]; (clear h; omega)))
theorem QPb_vB [Inhabited gh_] : QPb N (vB_ b N n t) := ⟨fun r hr => vB_r (fun e => hr (by revert e; unfold QPRr; simp only [List.mem_cons, List.not_mem_nil, or_false]; omega)), fun i _ => by rw [vB_6]⟩
theorem QPb_q1 [Inhabited gh_] : QPb N (q1_ N) := QF_P q1_QF
theorem QPb_nx [Inhabited gh_] : QPb N (nx_ N) := QF_P nx_QF
theorem XPb_nX [Inhabited gh_] : XPb M (nX_ M) := XF_P nX_XF
theorem XPb_o1 [Inhabited gh_] : XPb M (o1_ M) := XF_P o1_XF
theorem XPb_fl [Inhabited gh_] {k t : Int} : XPb M (flX_ M k t) := XF_P fl_XF
/-- Q's variable(n, t) -/
theorem y_254 [Inhabited gh_] (h : HDR b F M N a) (ht : nm9_ M t) (hn : b = 0 → n = M 124 (M 1 18) ∧ n < 8) (hd : b = 1 → DCL M (M 1 18) t) : ∃ N', HDR b F M N' a ∧ (PHF b F F M N M N' ∧ ONT b M N' t) ∧ (b = 0 → N' = N) ∧ (∀ (d : Nat) (Kv : mm_ → Prop) (Qt : qt_), Kv (vB_ b N' n t) → Tr_ wd0 pg0 (d + 3) 254 [.inr (.inr 6), .inl n, .inl t] N (rv_ Kv) Qt) ∧ (∀ (d : Nat) (Kv : mm_ → Prop) (Qt : qt_), Kv (q1_ (vB_ b N' n t)) → Tr_ wd0 pg0 (d + 3) 254 [.inr (.inr 6), .inl n, .inl t] (q1_ N) (rv_ Kv) Qt) := by
  have hE := TS_E h.1.1
  have hV := h.1.1.1.2.1
  have v := hV.2
  have tu := ht.1.2.1
  have t0 := ht.1.1
  have g := ER_goq hE
  have g1 := ER_goq (ER_o1 hE)
  have n16 : N 6 16 = b := hE.2.2.2.2.2.2.2.1
  have a71 := v.2.2.2.1
  have a73 := v.2.2.2.2.1
  rcases bl01 hE with hb | hb
  · have hn' := hn hb
    refine ⟨N, h, ⟨PHF_rf, fun hb1 => by omega⟩, fun _ => rfl, fun d Kv Qt hk => ?_, fun d Kv Qt hk => ?_⟩
    · unfold vB_ at hk; rw [if_pos hb] at hk
      exact q_254n g (by (clear h ht hn hd hE hV v tu t0 g g1 a71 a73 hn' hk; lia)) (by omega) (by omega) (by rw [v.1]; (clear h ht hn hd hE hV tu t0 g g1 n16 a71 a73 hb hk; omega)) (by omega) hk
    · unfold vB_ at hk; rw [if_pos hb, ← vN_q1] at hk
      exact q_254n g1 (by rw [q1_6 (by decide)]; omega) (by rw [q1_6 (by decide)]; omega) (by omega) (by rw [q1_6 (by decide), q1_r (by decide), v.1]; omega) (by omega) hk
  · obtain ⟨N', ho, hq⟩ := q_254j (t := t) g (by (clear h ht hn hd hE hV v tu t0 g g1 a71 a73; lia)) (by (clear h ht hn hd hE hV tu t0 g g1 n16 a71 a73 hb; omega)) (by rw [v.1]; (clear h ht hn hd hE hV tu t0 g g1 n16 a71 a73 hb; omega)) (by rw [v.1]; omega) (by omega)
    obtain ⟨N2, ho2, hq2⟩ := q_254j (N := q1_ N) (t := t) g1 (by rw [q1_6 (by decide)]; omega) (by rw [q1_6 (by decide)]; omega) (by rw [q1_6 (by decide), q1_r (by decide), v.1]; omega) (by rw [q1_6 (by decide), q1_r (by decide), v.1]; omega) (by omega)
    have same : N2 = q1_ N' := by
      rcases ho with ⟨e, m⟩ | ⟨e, m⟩
      · rcases ho2 with ⟨e2, m2⟩ | ⟨e2, m2⟩
        · rw [e, e2]
        · exact absurd (OWM_q1.1 m2) m
      · rcases ho2 with ⟨e2, m2⟩ | ⟨e2, m2⟩
        · exact absurd (OWM_q1.2 m) m2
        · rw [e2, e, q1_r (by decide), nt_q1]
    refine ⟨N', HDR_ow h hb ht (hd hb) (OWX_I ho), ⟨PHF_ow h ht (OWX_I ho), ONT_ow h ht ho⟩, fun hb0 => by omega, fun d Kv Qt hk => ?_, fun d Kv Qt hk => ?_⟩
    · unfold vB_ at hk; rw [if_neg (by omega)] at hk
      exact hq d n Kv Qt hk
    · unfold vB_ at hk; rw [if_neg (by omega)] at hk
      exact hq2 d n Kv Qt (by rw [same]; exact hk)
end VW
end T232_pr
section T233_pr
/-! a variable: its end, both passes -/
section VY
variable {d : Nat} {b F : Int} {M N : mm_} {a t n s z l x4 : Int} {Kv : mm_ → Prop} {Qt : qt_}
def VOV (M : mm_) (z : Int) : Prop := 16 < M 125 (M 1 18) + (if 1 < z then z else 1)
theorem HDR_w [Inhabited gh_] (h : HDR b F M N a) (ht : nm9_ M t) (hta : t < a) (hlt : b = 0 → ∀ u, DCL M (M 1 18) u → u < t) (hn : b = 0 → n = M 124 (M 1 18) ∧ n < 8) (hz : 0 ≤ z ∧ z ≤ 8) (hs : 0 ≤ s ∧ s ≤ 2) (hf : M 1 7 + 1 + 8 * (1201 - a) ≤ 1000000000 - (gg_ : Int)) (hp : b = 0 → N 170 (M 1 18) ≤ M 124 (M 1 18)) (hc : b = 0 → ¬ VOV M z) : HDR b (vF_ b F M N t) (vM_ b M N t s z) (vQ_ b N n t (s + 1) z) a ∧ PHFx (fun v => b = 0 ∧ v = t) b F (vF_ b F M N t) M N (vM_ b M N t s z) (vQ_ b N n t (s + 1) z) := by
  have hV := h.1.1.1.2.1
  rcases bl01 (TS_E h.1.1) with hb | hb
  · unfold vF_ vM_ vQ_
    rw [if_pos hb, if_pos hb, if_pos hb, (hn hb).1]
    have c := hc hb
    unfold VOV at c
    have n8 := hn hb
    have n0 := hV.2.2.2.2.1.1
    exact ⟨HDR_v h hb ht hta (hlt hb) (by (clear h ht hta hlt hn hz hs hf hp hc hV hb c; omega)) (by (clear h ht hta hlt hn hz hs hf hp hc hV hb n8 n0; omega)) hz hs hf (hp hb), PHF_v hb hV.2.1 ⟨n0, by omega⟩⟩
  · unfold vF_ vM_ vQ_
    rw [if_neg (by (clear h ht hta hlt hn hz hs hf hp hc hV; lia)), if_neg (by omega), if_neg (by omega)]
    exact ⟨h, PHFx_w PHF_rf⟩
theorem y_127 [Inhabited gh_] (h : HDR b F M N a) (ht : nm9_ M t) (hn : b = 0 → M 124 (M 1 18) < 8) (hz : 0 ≤ z ∧ z ≤ 8) (hl : 0 ≤ l ∧ l < 1202) (hK : (b = 0 → ¬ VOV M z) → Kv (vM_ b M N t s z)) (hr : b = 0 → VOV M z → Qt 8 (flX_ M 2 l)) : Tr_ wd0 pg0 (d + 4) 127 [.inr (.inr 1), .inl t, .inl s, .inl z, .inl l] M (rv_ Kv) Qt := by
  have hE := TS_E h.1.1
  have m8 : M 1 8 = b := hE.2.2.2.2.2.2.1
  rcases bl01 hE with hb | hb
  · unfold vM_ VOV at *
    rw [if_pos hb] at hK
    have b1 := h.2.1.1
    exact x_127 (by (clear h ht hn hz hl hK hr hE b1; lia)) h.1.1.1.1 h.1.1.1.2.1 ht (hn hb) ⟨b1.2.1, b1.2.2.1⟩ hz hl (ER_fl hE) (fun c => hK (fun _ => by omega)) (hr hb)
  · unfold vM_ at hK
    rw [if_neg (by omega)] at hK
    exact x_127j (by (clear h ht hn hz hl hK hr hE; lia)) (hK (fun hb0 => by omega))
theorem y_127o [Inhabited gh_] (h : HDR b F M N a) (ht : nm9_ M t) (hn : b = 0 → M 124 (M 1 18) < 8) (hz : 0 ≤ z ∧ z ≤ 8) (hl : 0 ≤ l ∧ l < 1202) (hK : (b = 0 → ¬ VOV M z) → Kv (o1_ (vM_ b M N t s z))) (hr : b = 0 → VOV M z → Qt 8 (flX_ (o1_ M) 2 l)) : Tr_ wd0 pg0 (d + 4) 127 [.inr (.inr 1), .inl t, .inl s, .inl z, .inl l] (o1_ M) (rv_ Kv) Qt := by
  have hE := TS_E h.1.1
  have m8 : o1_ M 1 8 = b := by rw [o1_1 (by decide)]; exact hE.2.2.2.2.2.2.1
  have e18 : o1_ M 1 18 = M 1 18 := o1_1 (by decide)
  have e125 : o1_ M 125 = M 125 := o1_r (by decide)
  rcases bl01 hE with hb | hb
  · unfold vM_ VOV at *
    rw [if_pos hb] at hK
    have b1 := h.2.1.1
    refine x_127 (N := q1_ N) (by (clear h ht hn hz hl hK hr hE e18 e125 b1; lia)) (Tks_a (XF_XA o1_XF) (QF_QA q1_QF) h.1.1.1.1) (VT_a (XF_XA o1_XF) (QF_QA q1_QF) h.1.1.1.2.1) (nm9_r ht (o1_r (by decide))) (by rw [e18, o1_r (by decide)]; exact hn hb) (by rw [e18, e125]; exact ⟨b1.2.1, b1.2.2.1⟩) hz hl (ER_fl (ER_o1 hE)) (fun c => ?_) (fun c => hr hb (by rw [e18, e125] at c; exact c))
    rw [e18, e125] at c
    rw [nd_o1, vX_o1]
    exact hK (fun _ => by omega)
  · unfold vM_ at hK
    rw [if_neg (by omega)] at hK
    exact x_127j (by (clear h ht hn hz hl hK hr hE e18 e125; lia)) (hK (fun hb0 => by omega))
/-- Q's holds, pass 1 -/
theorem j_256 [Inhabited gh_] (h : HDR b F M N a) (hb : b = 0) (hn : 0 ≤ n ∧ n < 8) (hz : 0 ≤ z ∧ z ≤ 8) (hg : ¬ VOV M z → Kv (vQ_ b N n t s z)) (hr : VOV M z → Kv (bf_ (vQ_ b N n t s z) 2 x4)) : Tr_ wd0 pg0 (d + 2) 256 [.inr (.inr 6), .inl n, .inl s, .inl z, .inl x4] (vB_ b N n t) (rv_ Kv) Qt := by
  have hE := TS_E h.1.1
  have hV := h.1.1.1.2.1
  have b1 := h.2.1.1
  unfold vQ_ at hg hr
  rw [if_pos hb] at hg hr
  have e61 : vB_ b N n t 6 61 = M 1 18 := by rw [vB_6]; exact hV.2.1
  have e172 : vB_ b N n t 172 (M 1 18) = M 125 (M 1 18) := by rw [vB_r (by decide)]; exact b1.1
  have ez : (if z = 0 then (1 : Int) else z) = (if 1 < z then z else 1) := by
    by_cases c : z = 0
    · rw [if_pos c, if_neg (by omega)]
    · rw [if_neg c]
      by_cases c2 : 1 < z
      · rw [if_pos c2]
      · rw [if_neg c2]; (clear h hb hn hg hr hE hV b1 e61 e172; lia)
  have ev : vB_ b N n t = vN_ N n t := by unfold vB_; rw [if_pos hb]
  refine q_256 (by rw [e61]; have := hV.2.2; omega) hn hz (by rw [e61, e172]; omega) (by rw [vB_6]; exact hE.2.2.2.2.2.2.2.2.2.1 hb) ?_ ?_
  · rw [e61, e172, ez, ev]
    exact fun c => hg (fun e => by unfold VOV at e; (clear h hb hn hz hg hr hE hV b1 e61 ez ev; omega))
  · rw [e61, e172, ez, ev]
    exact fun c => hr (by unfold VOV; omega)
theorem j_256o [Inhabited gh_] (h : HDR b F M N a) (hb : b = 0) (hn : 0 ≤ n ∧ n < 8) (hz : 0 ≤ z ∧ z ≤ 8) (hg : ¬ VOV M z → Kv (q1_ (vQ_ b N n t s z))) (hr : VOV M z → Kv (bf_ (q1_ (vQ_ b N n t s z)) 2 x4)) : Tr_ wd0 pg0 (d + 2) 256 [.inr (.inr 6), .inl n, .inl s, .inl z, .inl x4] (q1_ (vB_ b N n t)) (rv_ Kv) Qt := by
  have hE := TS_E h.1.1
  have hV := h.1.1.1.2.1
  have b1 := h.2.1.1
  unfold vQ_ at hg hr
  rw [if_pos hb] at hg hr
  have e61 : q1_ (vB_ b N n t) 6 61 = M 1 18 := by rw [q1_6 (by decide), vB_6]; exact hV.2.1
  have e172 : q1_ (vB_ b N n t) 172 (M 1 18) = M 125 (M 1 18) := by rw [q1_r (by decide), vB_r (by decide)]; exact b1.1
  have ez : (if z = 0 then (1 : Int) else z) = (if 1 < z then z else 1) := by
    by_cases c : z = 0
    · rw [if_pos c, if_neg (by omega)]
    · rw [if_neg c]
      by_cases c2 : 1 < z
      · rw [if_pos c2]
      · rw [if_neg c2]; omega
  have ev : vB_ b N n t = vN_ N n t := by unfold vB_; rw [if_pos hb]
  have eA : vH_ (q1_ (vB_ b N n t)) n s z = q1_ (vA_ N n t s z) := by rw [ev, vH_q1]; rfl
  refine q_256 (by rw [e61]; have := hV.2.2; omega) hn hz (by rw [e61, e172]; (clear h hb hn hz hg hr hE hV e61 ez ev eA; lia)) (by rw [q1_6 (by decide), vB_6]; exact hE.2.2.2.2.2.2.2.2.2.1 hb) ?_ ?_
  · rw [e61, e172, ez, eA]
    exact fun c => hg (fun e => by unfold VOV at e; (clear h hb hn hz hg hr hE hV b1 e61 ez ev eA; omega))
  · rw [e61, e172, ez, eA]
    exact fun c => hr (by unfold VOV; omega)
theorem vM_r [Inhabited gh_] {r : Nat} (h1 : r ≠ 1) (h : r ∉ vxL) : vM_ b M N t s z r = M r := by
  unfold vM_; split
  · rw [vX_r (fun e => h (by revert e; unfold vxL; simp only [List.mem_cons, List.not_mem_nil, or_false]; (clear h1 h; lia))), nd_r h1]
  · rfl
theorem vQ_r [Inhabited gh_] {r : Nat} (h6 : r ≠ 6) (h : r ∉ vqL) : vQ_ b N n t s z r = N r := by
  unfold vQ_; split
  · exact vA_r (fun e => h (by revert e; unfold vqL; simp only [List.mem_cons, List.not_mem_nil, or_false]; (clear h6 h; lia)))
  · rfl
theorem vQ_6 [Inhabited gh_] : vQ_ b N n t s z 6 = N 6 := by
  unfold vQ_; split
  · exact vA_r (by decide)
  · rfl
end VY
end T233_pr
section T234_pr
/-! parameters of a process: the loop, walked -/
def P296 [Inhabited gh_] (dq : Nat) (b x1 x2 : Int) (V : vv_) (Qt : qt_) (n : Nat) : Prop := ∀ (a j F : Int) (M N : mm_), 1201 - a ≤ (n : Int) → HDR b F M N a → a < 1200 → (M 70 a = 240 ∨ M 70 a = 244) → (0 ≤ j ∧ j ≤ 3) → (b = 0 → M 124 (M 1 18) = j ∧ N 170 (M 1 18) = j) → (b = 1 → PAS (M 70) (DMT M) (a, j) ≠ none) →
    (∀ F' M' N' a' j', HDR b F' M' N' a' → a + 4 ≤ a' → (j ≤ j' ∧ j' ≤ 2) → (b = 0 → M' 124 (M 1 18) = j' + 1 ∧ N' 170 (M 1 18) = j' + 1 ∧ M' 126 (M 1 18) = M 126 (M 1 18)) → PHF b F F' M N M' N' → M' 70 a' ≠ 244 → (∀ dm, DOK b dm M M' → PAS (M 70) dm (a, j) = (tS (M 70) 241 a').bind fun a5 => some (a5, j' + 1)) → (∀ (G : Int → mm_ → Prop) (Qtq : qt_), q53e dq (j' + 1) N' G Qtq → q53 dq j N G Qtq) → Tr_ wd0 pg0 130 121 [.inr (.inr 1), .inl 41] (o1_ M') (rv_ (R322 V Qt x1 x2 j')) Qt) →
    (b = 0 → ∀ Mx', XPb M Mx' → (∀ (G : Int → mm_ → Prop) (Qtq : qt_), (∀ v M', SQp Mx' N M' → G v M') → q53 dq j N G Qtq) → Qt 8 Mx') →
    V 296 [rr 1, ii x1, ii x2, ii j, none, none, none] [] (o1_ M)
section PL1
variable {dq : Nat} {b : Int} {x1 x2 a j F F5 : Int} {M N M5 N5 : mm_} {n : Nat} {Kv : mm_ → Prop} {Qt : qt_} {V : vv_}
theorem pa_main [Inhabited gh_] (hV : Cl_ wd0 (Tr_ wd0 pg0 130) V (rv_ Kv) Qt m_126) (hW : Wk_ V) (IH : P296 dq b x1 x2 V Qt n) (hn : 1201 - a ≤ ((n + 1 : Nat) : Int)) (ha : 0 ≤ a ∧ a ≤ 1200) (hj : 0 ≤ j ∧ j ≤ 2) (h01 : b = 0 ∨ b = 1)
    (eS : ∀ dm, dm (a + 1) = true → PAS (M 70) dm (a, j) = if M 70 (a + 1 + 1 + 1 + 1) = 244 then PAS (M 70) dm (a + 1 + 1 + 1 + 1, j + 1) else (tS (M 70) 241 (a + 1 + 1 + 1 + 1)).bind fun a5 => some (a5, j + 1)) (dm1 : b = 1 → DMT M (a + 1) = true) (hS : b = 1 → PAS (M 70) (DMT M) (a, j) ≠ none)
    (hK : ∀ F' M' N' a' j', HDR b F' M' N' a' → a + 4 ≤ a' → (j ≤ j' ∧ j' ≤ 2) → (b = 0 → M' 124 (M 1 18) = j' + 1 ∧ N' 170 (M 1 18) = j' + 1 ∧ M' 126 (M 1 18) = M 126 (M 1 18)) → PHF b F F' M N M' N' → M' 70 a' ≠ 244 → (∀ dm, DOK b dm M M' → PAS (M 70) dm (a, j) = (tS (M 70) 241 a').bind fun a5 => some (a5, j' + 1)) → (∀ (G : Int → mm_ → Prop) (Qtq : qt_), q53e dq (j' + 1) N' G Qtq → q53 dq j N G Qtq) → Tr_ wd0 pg0 130 121 [.inr (.inr 1), .inl 41] (o1_ M') (rv_ (R322 V Qt x1 x2 j')) Qt)
    (hQ : b = 0 → ∀ Mx', XPb M Mx' → (∀ (G : Int → mm_ → Prop) (Qtq : qt_), (∀ v M', SQp Mx' N M' → G v M') → q53 dq j N G Qtq) → Qt 8 Mx')
    (H6 : HDR b F5 M5 N5 (a + 1 + 1 + 1 + 1)) (p6 : PHF b F F5 M N M5 N5) (cn6 : b = 0 → M5 124 (M 1 18) = j + 1 ∧ N5 170 (M 1 18) = j + 1 ∧ M5 126 (M 1 18) = M 126 (M 1 18)) (r6 : M5 70 = M 70) (dc6 : b = 0 → DCL M5 (M 1 18) (a + 1)) (q6 : ∀ (G : Int → mm_ → Prop) (Qtq : qt_), (∀ V' : vv_, Cl_ wd0 (Tr_ wd0 pg0 (dq + 17)) V' (ri_ G) Qtq m_253 → Wk_ V' → Tr_ wd0 pg0 (dq + 17) 242 [.inr (.inr 6), .inl 44] (q1_ N5) (ri_ fun v2 M2 => V' 10 [rr 6, ii (w32 (j + 1)), ii v2, none, none, none] [] M2) Qtq) → q53 dq j N G Qtq) :
    Tr_ wd0 pg0 130 117 [.inr (.inr 1), .inl 44] (o1_ M5) (ri_ fun v2 M4 => if v2 = 0 then Tr_ wd0 pg0 130 121 [.inr (.inr 1), .inl 41] M4 (rv_ (R322 V Qt x1 x2 j)) Qt else V 296 [rr 1, ii x1, ii x2, ii (w32 (j + 1)), none, none, none] [] M4) Qt := by
  have hE6 := TS_E H6.1.1
  have oE6 := ER_o1 hE6
  have oT6 : Tks (o1_ M5) (q1_ N5) := Tks_a (XF_XA o1_XF) (QF_QA q1_QF) H6.1.1.1.1
  have w1 : w32 (j + 1) = j + 1 := w32_id (by omega) (by omega)
  rw [w1] at q6 ⊢
  have xs6 : XPb M (o1_ M5) := XPb_tr (PHF_X p6) XPb_o1
  have qs6 : QPb N (q1_ N5) := QPb_tr (PHF_Q p6) QPb_q1
  have e186 : M5 1 18 = M 1 18 := p6.1.2.1 18 (by decide)
  have ok1 : ∀ dm, DOK b dm M M5 → dm (a + 1) = true := fun dm hd => by
    rcases h01 with hb | hb
    · exact hd.1 hb _ (by rw [e186]; exact dc6 hb)
    · rw [hd.2 hb]; exact dm1 hb
  have a6 := ER_a hE6
  refine y_117 oE6 (by decide) (fun c => ?_) (fun c => ?_)
  · rw [if_neg (by decide)]
    have c' : M5 70 (a + 1 + 1 + 1 + 1) = 244 := by have := c; rw [o1_r (by decide)] at this; exact this
    have c'' : M 70 (a + 1 + 1 + 1 + 1) = 244 := by rw [← r6]; exact c'
    have eS6 : ∀ dm, dm (a + 1) = true → PAS (M 70) dm (a, j) = PAS (M 70) dm (a + 1 + 1 + 1 + 1, j + 1) := fun dm hd => by rw [eS dm hd, if_pos c'']
    by_cases c12 : a + 1 + 1 + 1 + 1 < 1200
    · have q7 : ∀ (G : Int → mm_ → Prop) (Qtq : qt_), q53 dq (j + 1) N5 G Qtq → q53 dq j N G Qtq := fun G Qtq hq => q6 G Qtq fun V' hV' hW' => j_242t oT6 oE6 (by decide) c c12 (by
        have := hq V' hV' hW'
        rw [← nx_q1] at this
        exact this)
      refine IH (a + 1 + 1 + 1 + 1) (j + 1) F5 M5 N5 (by omega) H6 c12 (.inr c') (by omega) (by rw [e186]; exact fun hb => ⟨(cn6 hb).1, (cn6 hb).2.1⟩) (fun hb => ?_) (fun F' M' N' a' j' H' ha' hj' cn' p' h44 sy hq => ?_) (fun hb Mx' hx hq => ?_)
      · have := hS hb
        rw [eS6 _ (dm1 hb)] at this
        rw [r6, DMT_c p6 hb]; exact this
      · rw [r6] at sy
        rw [e186] at cn'
        refine hK F' M' N' a' j' H' (by omega) (by (clear hV hW IH hn ha hj h01 eS dm1 hS hK hQ H6 p6 cn6 r6 dc6 q6 hE6 oE6 oT6 xs6 qs6 e186 ok1 a6 c c' c'' eS6 c12 q7 H' ha' cn' p' h44 sy hq; omega)) (fun hb => ⟨(cn' hb).1, (cn' hb).2.1, (cn' hb).2.2.trans (cn6 hb).2.2⟩) (PHF_tr p6 p') h44 (fun dm hd => ?_) (fun G Qtq hg => q7 G Qtq (hq G Qtq hg))
        have o := DOK_s p6 p' hd
        rw [eS6 dm (ok1 dm o.1)]
        exact sy dm o.2
      · exact hQ hb Mx' (XPb_tr (PHF_X p6) hx) (fun G Qtq hg => q7 G Qtq (hq G Qtq fun v M' p => hg v _ (SQp_tr (PHF_Q p6) p)))
    · rcases h01 with hb | hb
      · refine b_126_296 (Tr_mono _) hV hW _ _ _ _ ?_
        refine y_105 oE6 (by rw [c]; decide) (fun hb1 => by omega) (fun h16 _ => by omega) (fun _ h16 => ?_)
        have hsp := SQ_bf oE6 hb (k := 2) (by decide) QA_rf
        exact hQ hb _ (XPb_tr xs6 XPb_fl) (fun G Qtq hg => q6 G Qtq fun V' hV' hW' => j_242r oT6 oE6 hb (by decide) c h16 (q53_s hV' hW' hsp.1 fun v => hg v _ (SQp_tr qs6 (SQ_P hsp))))
      · exfalso
        have := hS hb
        rw [eS6 _ (dm1 hb)] at this
        have := PAS_g (by omega) (by omega) this
        omega
  · rw [if_pos rfl]
    have c' : ¬ M5 70 (a + 1 + 1 + 1 + 1) = 244 := by have := c; rw [o1_r (by decide)] at this; exact this
    have c'' : ¬ M 70 (a + 1 + 1 + 1 + 1) = 244 := by rw [← r6]; exact c'
    refine hK F5 M5 N5 (a + 1 + 1 + 1 + 1) j H6 (by omega) (by omega) cn6 p6 c' (fun dm hd => ?_) (fun G Qtq hg => q6 G Qtq fun V' hV' hW' => j_242f oT6 oE6 (by decide) c (hg V' hV' hW'))
    rw [eS dm (ok1 dm hd), if_neg c'']
end PL1
end T234_pr
section T235_pr
/-! parameters of a process: behind a parameter -/
section PL3
variable {dq : Nat} {b : Int} {a j F t s : Int} {M N : mm_}
theorem pa_end [Inhabited gh_] (h : HDR b F M N a) (ht : nm9_ M t) (hta : t < a) (hlt : b = 0 → ∀ u, DCL M (M 1 18) u → u < t) (hj : 0 ≤ j ∧ j ≤ 2) (hcnt : b = 0 → M 124 (M 1 18) = j ∧ N 170 (M 1 18) = j) (hov : b = 0 → ¬ VOV M 0) (hs : 0 ≤ s ∧ s ≤ 2) (hf : M 1 7 + 1 + 8 * (1201 - a) ≤ 1000000000 - (gg_ : Int)) :
    ∃ F5 N5, HDR b F5 (vM_ b M N t s 0) N5 a ∧ PHFx (fun v => b = 0 ∧ v = t) b F F5 M N (vM_ b M N t s 0) N5 ∧ (b = 0 → vM_ b M N t s 0 124 (M 1 18) = j + 1 ∧ N5 170 (M 1 18) = j + 1 ∧ vM_ b M N t s 0 126 (M 1 18) = M 126 (M 1 18)) ∧ vM_ b M N t s 0 70 = M 70 ∧ (b = 0 → DCL (vM_ b M N t s 0) (M 1 18) t) ∧ (b = 0 → N5 = up_ (vQ_ b N j t (s + 1) 0) 170 (M 1 18) (j + 1)) ∧ (b = 1 → N5 = N) := by
  obtain ⟨H5, p5⟩ := HDR_w (s := s) (z := 0) (n := j) (t := t) h ht hta hlt (fun hb => by have := hcnt hb; (clear h ht hta hlt hcnt hov hs hf hb; lia)) (by decide) hs hf (fun hb => by have := hcnt hb; omega) hov
  have x70 : vM_ b M N t s 0 70 = M 70 := vM_r (by decide) (by decide)
  rcases bl01 (TS_E h.1.1) with hb | hb
  · have hV := h.1.1.1.2.1
    have e18v : vM_ b M N t s 0 1 18 = M 1 18 := p5.1.2.1 18 (by decide)
    have xk := vX_k (M := nd_ M N t) (t := t) (s := s) (z := 0)
    rw [nd_1 (i := 18) (by decide) (by decide) (by decide), nd_r (r := 124) (by decide), (hcnt hb).1] at xk
    have b124 : vM_ b M N t s 0 124 (M 1 18) = j + 1 := by unfold vM_; rw [if_pos hb]; exact xk.2.2.2.2.2
    have b126 : vM_ b M N t s 0 126 (M 1 18) = M 126 (M 1 18) := by unfold vM_; rw [if_pos hb, vX_r (by decide), nd_r (by decide)]
    have b60 : vM_ b M N t s 0 60 (8 * M 1 18 + j) = t := by unfold vM_; rw [if_pos hb]; exact xk.1
    have b170 : vQ_ b N j t (s + 1) 0 170 (M 1 18) = j := by unfold vQ_; rw [if_pos hb, vA_r (by decide)]; exact (hcnt hb).2
    have b182 : vQ_ b N j t (s + 1) 0 182 (8 * M 1 18 + j) = s + 1 := by
      unfold vQ_; rw [if_pos hb]
      have qk := (vA_k (N := N) (n := j) (t := t) (s := s + 1) (z := 0)).2.2.2.1
      rw [hV.2.1] at qk; exact qk
    have b183 : vQ_ b N j t (s + 1) 0 183 (8 * M 1 18 + j) = 0 := by
      unfold vQ_; rw [if_pos hb]
      have qk := (vA_k (N := N) (n := j) (t := t) (s := s + 1) (z := 0)).2.2.2.2.1
      rw [hV.2.1] at qk; exact qk
    generalize vM_ b M N t s 0 = M5 at *
    generalize vQ_ b N j t (s + 1) 0 = N4 at *
    have h6 := HDR_170 (n := j) H5 hb (by (clear h ht hta hlt hcnt hov hs hf hb hV x70 e18v b126 b60 b182 b183 H5 p5; lia)) trivial (by rw [e18v, b182, b183]; (clear h ht hta hlt hj hcnt hov hf hb hV x70 e18v b124 b126 b60 b170 b183 H5 p5; lia)) (by rw [e18v]; exact b170)
    have p6 := PHF_170 (b := b) (F := vF_ b F M N t) (M := M5) (N := N4) (v := j + 1) hb
    rw [e18v] at h6 p6
    exact ⟨_, _, h6, PHFx_tr p5 (PHFx_w p6), fun _ => ⟨b124, up_at, b126⟩, x70, fun _ => .inl ⟨j, by rw [b124]; (clear h ht hta hlt hcnt hov hs hf hb hV x70 e18v b126 b60 b182 b183 H5 p5 h6 p6; lia), b60⟩, fun _ => rfl, fun hb1 => by omega⟩
  · have ev : vQ_ b N j t (s + 1) 0 = N := by unfold vQ_; rw [if_neg (by omega)]
    rw [ev] at H5 p5
    exact ⟨_, _, H5, p5, fun hb0 => by omega, x70, fun hb0 => by omega, fun hb0 => by omega, fun _ => rfl⟩
end PL3
end T235_pr
section T236_pr
/-! parameters of a process: the loop -/
section PL2
variable {dq : Nat} {b : Int} {x1 x2 : Int} {Kv : mm_ → Prop} {Qt : qt_} {V : vv_}
theorem l_296 [Inhabited gh_] (hV : Cl_ wd0 (Tr_ wd0 pg0 130) V (rv_ Kv) Qt m_126) (hW : Wk_ V) : ∀ n : Nat, P296 dq b x1 x2 V Qt n
  | 0 => fun a j F M N hn h h12 _ _ _ _ _ _ => by omega
  | n + 1 => fun a j F M N hn h h12 hc hj hcnt hS hK hQ => by
    have hE := TS_E h.1.1
    have ha := ER_a hE
    have h01 := bl01 hE
    have fl := h.1.1.2.2.2.2.2.1
    have hkd : M 70 a ≠ 102 ∧ M 70 a ≠ 103 := by (clear hV hW hn h h12 hj hK hE ha fl; lia)
    have hE1 := (ER_go hE h12 hkd).1
    have H1 := HDR_go h hE1
    have x70 : nX_ M 70 = M 70 := nX_ne (by decide)
    have oE := ER_o1 hE
    have oE1 := ER_o1 hE1
    have oT1 : Tks (o1_ (nX_ M)) (q1_ (nx_ N)) := Tks_a (XF_XA o1_XF) (QF_QA q1_QF) H1.1.1.1.1
    have o70 : o1_ (nX_ M) 70 = M 70 := by rw [o1_r (by decide)]; exact x70
    have xs0 : XPb M (o1_ (nX_ M)) := XPb_tr XPb_nX XPb_o1
    have qs0 : QPb N (q1_ (nx_ N)) := QPb_tr QPb_nx QPb_q1
    refine b_126_296 (Tr_mono _) hV hW _ _ _ _ ?_
    refine y_105 oE (by rw [o1_r (by decide)]; exact hkd) (fun _ => by rw [gS_e h12]; exact fun e => by cases e) (fun _ _ => ?_) (fun _ e => by omega)
    rw [nX_o1]
    have toQ : ∀ {G : Int → mm_ → Prop} {Qtq : qt_}, (∀ V' : vv_, Cl_ wd0 (Tr_ wd0 pg0 (dq + 17)) V' (ri_ G) Qtq m_253 → Wk_ V' → Tr_ wd0 pg0 (dq + 17) 233 [.inr (.inr 6)] (q1_ (nx_ N)) (ri_ fun v2 M4 =>
     Tr_ wd0 pg0 (dq + 17) 227 [.inr (.inr 6)] M4 (ri_ fun v3 M5 =>
      (if v3 = 0 then
       (if j = 3 then
        (0 ≤ v2 ∧ v2 < 1202) ∧
         Tr_ wd0 pg0 (dq + 17) 231 [.inr (.inr 6), .inl 2, .inl (M5 150 v2)] M5 (rv_ fun M6 =>
         V' 49 [rr 6, ii j, ii 1, ii v2, none, none] [] M6) Qtq
       else
        V' 49 [rr 6, ii j, ii 1, ii v2, none, none] [] M5)
      else
       V' 49 [rr 6, ii j, ii 1, ii v2, none, none] [] M5)) Qtq) Qtq) → q53 dq j N G Qtq := fun hq V' hV' hW' => by
      refine b_253_10 (Tr_mono _) hV' hW' _ _ _ ?_
      rw [if_neg (by decide)]
      refine q_227g (ER_goq oE1) ?_
      rw [if_pos rfl]
      exact hq V' hV' hW'
    have nS : b = 1 → j ≠ 3 ∧ (tS (M 70) 100 (a + 1)) ≠ none := fun hb => by
      have h9 := hS hb
      by_cases c3 : j = 3
      · rw [c3, PAS_3 ha.1 ha.2] at h9; exact absurd rfl h9
      · rw [PAS_e ha.1 h12 c3] at h9; exact ⟨c3, bind_n h9⟩
    refine y_107 (d := 126) oE1 (fun hb => by rw [o70]; exact (nS hb).2) (fun hk1 h13 _ => ?_) (fun hb hk1 h13 => ?_) (fun hb hk1 => ?_)
    rotate_left
    · have hsp := SQ_bf oE1 hb (k := 2) (by decide) QA_rf
      exact hQ hb _ (XPb_tr xs0 XPb_fl) (fun G Qtq hg => toQ fun V' hV' hW' => j_233r oT1 oE1 hb hk1 h13 (q_227s hsp.1 (by rw [if_neg (by decide)]; exact q49_s hV' hW' hsp.1 fun v => hg v _ (SQp_tr qs0 (SQ_P hsp)))))
    · have hsp := SQ_bf oE1 hb (k := 1) (by decide) QA_rf
      exact hQ hb _ (XPb_tr xs0 XPb_fl) (fun G Qtq hg => toQ fun V' hV' hW' => j_233w oT1 oE1 hb hk1 (q_227s hsp.1 (by rw [if_neg (by decide)]; exact q49_s hV' hW' hsp.1 fun v => hg v _ (SQp_tr qs0 (SQ_P hsp)))))
    have hk1' : M 70 (a + 1) = 100 := by rw [← o70]; exact hk1
    rw [nX_o1]
    have hE2 := (ER_go hE1 h13 (by rw [x70, hk1']; decide)).1
    have H2 := HDR_go H1 hE2
    have oE2 := ER_o1 hE2
    have y70 : nX_ (nX_ M) 70 = M 70 := by rw [nX_ne (by decide)]; exact x70
    have qs2 : QPb N (q1_ (nx_ (nx_ N))) := QPb_tr (QPb_tr QPb_nx QPb_nx) QPb_q1
    have xs2 : XPb M (o1_ (nX_ (nX_ M))) := XPb_tr (XPb_tr XPb_nX XPb_nX) XPb_o1
    by_cases c3 : j = 3
    · rw [if_pos c3]
      rcases h01 with hb | hb
      · refine x_110 (by omega) (by omega) (fun e => absurd e (by decide)) (fun _ => ?_)
        have e150 : q1_ (nx_ (nx_ N)) 150 (a + 1) = o1_ (nX_ (nX_ M)) 71 (a + 1) := by
          rw [q1_r (by decide), nx_ne (by decide), o1_r (by decide), nX_ne (by decide)]; exact ((H1.1.1.1.1 (a + 1) hE1.1).2.1).symm
        have sp2 : sp_ (bf_ (q1_ (nx_ (nx_ N))) 2 (o1_ (nX_ (nX_ M)) 71 (a + 1))) := bf_sp (oE2.2.2.2.2.2.2.2.1.trans hb) (by decide)
        refine hQ hb _ (XPb_tr xs2 XPb_fl) (fun G Qtq hg => toQ fun V' hV' hW' => j_233t oT1 oE1 hk1 h13 ?_)
        rw [nx_q1]
        refine q_227g (ER_goq oE2) ?_
        rw [if_pos rfl, if_pos c3]
        refine ⟨by omega, q_231o (oE2.2.2.2.2.2.2.2.2.2.1 hb) ?_⟩
        rw [e150]
        refine q49_s hV' hW' sp2 fun v => hg v _ ⟨sp2, ?_, ?_, ?_, QPb_tr qs2 (QF_P bf_QF)⟩
        · unfold in9_; rw [bf_6 (by decide) (by decide), oE2.2.2.1]; (clear hV hW hn h hc hj hcnt hS hK hQ hE fl hkd hE1 H1 x70 oE oE1 oT1 o70 xs0 qs0 toQ nS hk1 hk1' hE2 H2 oE2 y70 qs2 xs2 c3 hb e150 sp2 hg hV' hW'; omega)
        · unfold bf_ flX_; rw [up_off (by decide), up_at, up_off (by decide), up_at]
        · refine ⟨?_, fl_b7 (by assumption)⟩; unfold bf_ flX_; rw [up_at, up_at]
      · exact absurd c3 (nS hb).1
    rw [if_neg c3]
    refine x_110 (by omega) (by (clear hV hW hn h hc hj hcnt hS hK hQ hE h01 fl hkd hE1 H1 x70 oE oE1 oT1 o70 xs0 qs0 toQ nS hk1 hk1' hE2 H2 oE2 y70 qs2 xs2 c3; omega)) (fun _ => ?_) (fun e => absurd rfl e)
    have eS : ∀ dm, dm (a + 1) = true → PAS (M 70) dm (a, j) = (tS (M 70) 258 (a + 1 + 1)).bind fun a3 => (srS (M 70) a3).bind fun a4 => if M 70 a4 = 244 then PAS (M 70) dm (a4, j + 1) else (tS (M 70) 241 a4).bind fun a5 => some (a5, j + 1) := fun dm hdm => by rw [PAS_e ha.1 h12 c3, tS_e hk1' h13, Option.bind_some, if_pos hdm]
    have dm1 : b = 1 → DMT M (a + 1) = true := fun hb => by
      have h9 := hS hb
      rw [PAS_e ha.1 h12 c3, tS_e hk1' h13, Option.bind_some] at h9
      by_cases c : DMT M (a + 1) = true
      · exact c
      · rw [if_neg c] at h9; exact absurd rfl h9
    have hS2 : b = 1 → ((tS (M 70) 258 (a + 1 + 1)).bind fun a3 => (srS (M 70) a3).bind fun a4 => if M 70 a4 = 244 then PAS (M 70) (DMT M) (a4, j + 1) else (tS (M 70) 241 a4).bind fun a5 => some (a5, j + 1)) ≠ none := fun hb => by rw [← eS _ (dm1 hb)]; exact hS hb
    have e18 : nX_ (nX_ M) 1 18 = M 1 18 := by rw [nX_1 (by decide), nX_1 (by decide)]
    have e124 : nX_ (nX_ M) 124 = M 124 := by rw [nX_ne (by decide), nX_ne (by decide)]
    have nm2 : nm9_ (nX_ (nX_ M)) (a + 1) := ⟨gd_c (nX_ne (by decide)) hE1.1, by rw [y70]; exact hk1'⟩
    have hdcl : ∀ u, DCL (nX_ (nX_ M)) (M 1 18) u ↔ DCL M (M 1 18) u := fun u => DCL_c (by rw [nX_ne (by decide), nX_ne (by decide)]) (by rw [nX_ne (by decide), nX_ne (by decide)]) (by rw [nX_ne (by decide), nX_ne (by decide)]) (by rw [nX_ne (by decide), nX_ne (by decide)])
    obtain ⟨N2, H2', f2, n2e, _, q254⟩ := y_254 (n := j) (t := a + 1) H2 nm2 (fun hb => by rw [e18, e124]; have := hcnt hb; (clear hV hW hn h h12 hc hcnt hS hK hQ hE ha h01 fl hkd hE1 H1 x70 oE oE1 oT1 o70 xs0 qs0 toQ nS hk1 h13 hk1' hE2 H2 oE2 y70 qs2 xs2 c3 eS dm1 hS2 e18 e124 nm2 hdcl hb; lia)) (fun hb => by rw [e18, hdcl]; exact DMT_D (dm1 hb))
    have toQ2 : ∀ {G : Int → mm_ → Prop} {Qtq : qt_}, (∀ V' : vv_, Cl_ wd0 (Tr_ wd0 pg0 (dq + 17)) V' (ri_ G) Qtq m_253 → Wk_ V' → Tr_ wd0 pg0 (dq + 17) 244 [.inr (.inr 6), .inl 58] (q1_ (vB_ b N2 j (a + 1))) (rv_ fun M3 =>
     (0 ≤ M3 6 12 ∧ M3 6 12 < 1202) ∧
      Tr_ wd0 pg0 (dq + 17) 241 [.inr (.inr 6)] M3 (ri_ fun v2 M4 =>
      Tr_ wd0 pg0 (dq + 17) 227 [.inr (.inr 6)] M4 (ri_ fun v3 M5 =>
       (if v3 = 0 then
        (bl_ (M5 6 16) → (if M5 6 16 = 0 then
         Tr_ wd0 pg0 (dq + 17) 256 [.inr (.inr 6), .inl j, .inl v2, .inl 0, .inl (M3 150 (M3 6 12))] M5 (rv_ fun M6 =>
          V' 113 [rr 6, ii j, ii 1, ii (a + 1), ii (M3 150 (M3 6 12)), ii v2] [] M6) Qtq
        else
         V' 113 [rr 6, ii j, ii 1, ii (a + 1), ii (M3 150 (M3 6 12)), ii v2] [] M5))
       else
        ri_ G [.inl j] M5)) Qtq) Qtq) Qtq) → q53 dq j N G Qtq := fun hq => toQ fun V' hV' hW' => j_233t oT1 oE1 hk1 h13 (by
      rw [nx_q1]
      refine q_227g (ER_goq oE2) ?_
      rw [if_pos rfl, if_neg c3]
      refine b_253_49 (Tr_mono _) hV' hW' _ _ _ _ (q_227g (ER_goq oE2) ?_)
      rw [if_pos rfl]
      exact q254 _ _ _ (hq V' hV' hW'))
    have hE2' := TS_E H2'.1.1
    have oE2v : ER b F (o1_ (nX_ (nX_ M))) (q1_ (vB_ b N2 j (a + 1))) (a + 1 + 1) 1 := ER_o1 (ER_vB hE2')
    have oT2v : Tks (o1_ (nX_ (nX_ M))) (q1_ (vB_ b N2 j (a + 1))) := Tks_a (XF_XA o1_XF) (QF_QA q1_QF) (Tks_vB H2'.1.1.1.1)
    have p2 : PHF b F F M N (nX_ (nX_ M)) N2 := PHFx_on (PHFx_tr (PHFx_w (PHF_go h (by (clear hV hW hn h h12 hK hE ha fl hE1 H1 x70 oE oE1 oT1 o70 xs0 qs0 toQ hk1 h13 hk1' hE2 H2 oE2 y70 qs2 xs2 eS e18 e124 nm2 hdcl H2' f2 q254 toQ2 hE2' oE2v oT2v; lia)))) (PHFx_tr (PHFx_go H1) (PHFx_w f2.1))) (fun _ v hv => by rw [hv, hE.2.1]; omega) (fun _ v hv => by rw [hv]; exact ONT_c f2.2 (fun r hr => by rw [nX_ne hr, nX_ne hr]) e18)
    have qs2v : QPb N (q1_ (vB_ b N2 j (a + 1))) := QPb_tr (PHF_Q p2) (QPb_tr QPb_vB QPb_q1)
    have u70 : o1_ (nX_ (nX_ M)) 70 = M 70 := by rw [o1_r (by decide)]; exact y70
    refine b_126_322 (Tr_mono _) hV hW _ _ _ _ _ ?_
    refine y_121 oE2v (by decide) (fun hb => by rw [u70]; exact bind_n (hS2 hb)) (fun k2 h14 _ => ?_) (fun hb k2 h14 => ?_) (fun hb k2 => ?_)
    rotate_left
    · have hsp := SQ_bf oE2v hb (k := 2) (by decide) QA_rf
      exact hQ hb _ (XPb_tr xs2 XPb_fl) (fun G Qtq hg => toQ2 fun V' hV' hW' => j_244r oT2v oE2v hb (by decide) k2 h14 ⟨hsp.2.1, q_241s hsp.1 hsp.2.1 (q_227s hsp.1 (by rw [if_neg (by decide)]; exact ri_i (hg _ _ (SQp_tr qs2v (SQ_P hsp)))))⟩)
    · have hsp := SQ_bf oE2v hb (k := 1) (by decide) QA_rf
      exact hQ hb _ (XPb_tr xs2 XPb_fl) (fun G Qtq hg => toQ2 fun V' hV' hW' => j_244w oT2v oE2v hb (by decide) k2 ⟨hsp.2.1, q_241s hsp.1 hsp.2.1 (q_227s hsp.1 (by rw [if_neg (by decide)]; exact ri_i (hg _ _ (SQp_tr qs2v (SQ_P hsp)))))⟩)
    have k2' : M 70 (a + 1 + 1) = 258 := by rw [← u70]; exact k2
    have k2'' : nX_ (nX_ M) 70 (a + 1 + 1) = 258 := by rw [y70]; exact k2'
    rw [nX_o1]
    have hE3 := (ER_go hE2' h14 (by rw [k2'']; decide)).1
    have H3 := HDR_go H2' hE3
    have oE3v : ER b F (o1_ (nX_ (nX_ (nX_ M)))) (q1_ (vB_ b (nx_ N2) j (a + 1))) (a + 1 + 1 + 1) 1 := ER_o1 (ER_vB hE3)
    have oT3v : Tks (o1_ (nX_ (nX_ (nX_ M)))) (q1_ (vB_ b (nx_ N2) j (a + 1))) := Tks_a (XF_XA o1_XF) (QF_QA q1_QF) (Tks_vB H3.1.1.1.1)
    have p3 : PHF b F F M N (nX_ (nX_ (nX_ M))) (nx_ N2) := PHF_tr p2 (PHF_go H2' (by rw [k2'']; decide))
    have qs3v : QPb N (q1_ (vB_ b (nx_ N2) j (a + 1))) := QPb_tr (PHF_Q p3) (QPb_tr QPb_vB QPb_q1)
    have xs3 : XPb M (o1_ (nX_ (nX_ (nX_ M)))) := XPb_tr (PHF_X p3) XPb_o1
    have z70 : nX_ (nX_ (nX_ M)) 70 = M 70 := by rw [nX_ne (by decide)]; exact y70
    have w70 : o1_ (nX_ (nX_ (nX_ M))) 70 = M 70 := by rw [o1_r (by decide)]; exact z70
    have m13 : o1_ (nX_ (nX_ (nX_ M))) 1 3 = a + 1 + 1 + 1 := oE3v.2.1
    have kq3 := ER_k oT3v oE3v
    have p150 : q1_ (vB_ b (nx_ N2) j (a + 1)) 150 (q1_ (vB_ b (nx_ N2) j (a + 1)) 6 12) = M 71 (a + 1 + 1 + 1) := by
      rw [kq3.2.1, o1_r (by decide), nX_ne (by decide), nX_ne (by decide), nX_ne (by decide)]
    have toQ3 : ∀ {G : Int → mm_ → Prop} {Qtq : qt_}, (∀ V' : vv_, Cl_ wd0 (Tr_ wd0 pg0 (dq + 17)) V' (ri_ G) Qtq m_253 → Wk_ V' → Tr_ wd0 pg0 (dq + 17) 241 [.inr (.inr 6)] (q1_ (vB_ b (nx_ N2) j (a + 1))) (ri_ fun v2 M4 =>
      Tr_ wd0 pg0 (dq + 17) 227 [.inr (.inr 6)] M4 (ri_ fun v3 M5 =>
       (if v3 = 0 then
        (bl_ (M5 6 16) → (if M5 6 16 = 0 then
         Tr_ wd0 pg0 (dq + 17) 256 [.inr (.inr 6), .inl j, .inl v2, .inl 0, .inl (M 71 (a + 1 + 1 + 1))] M5 (rv_ fun M6 =>
          V' 113 [rr 6, ii j, ii 1, ii (a + 1), ii (M 71 (a + 1 + 1 + 1)), ii v2] [] M6) Qtq
        else
         V' 113 [rr 6, ii j, ii 1, ii (a + 1), ii (M 71 (a + 1 + 1 + 1)), ii v2] [] M5))
       else
        ri_ G [.inl j] M5)) Qtq) Qtq) → q53 dq j N G Qtq := fun hq => toQ2 fun V' hV' hW' => j_244t oT2v oE2v (by decide) k2 h14 (by
      rw [nx_q1, vB_nx, p150]
      exact ⟨kq3.2.2.1, hq V' hV' hW'⟩)
    have hS3 : b = 1 → ((srS (M 70) (a + 1 + 1 + 1)).bind fun a4 => if M 70 a4 = 244 then PAS (M 70) (DMT M) (a4, j + 1) else (tS (M 70) 241 a4).bind fun a5 => some (a5, j + 1)) ≠ none := fun hb => by
      have := hS2 hb; rw [tS_e k2' h14, Option.bind_some] at this; exact this
    refine y_119 oE3v (fun hb => by rw [w70]; exact bind_n (hS3 hb)) (fun s1 s2 h15 _ => ?_) (fun hb s1 s2 h15 => ?_) (fun hb sk => ?_)
    rotate_left
    · have hsp := SQ_bf oE3v hb (k := 2) (by decide) QA_rf
      exact hQ hb _ (XPb_tr xs3 XPb_fl) (fun G Qtq hg => toQ3 fun V' hV' hW' => j_241r oT3v oE3v hb ⟨s1, s2⟩ h15 (fun v => q_227s hsp.1 (by rw [if_neg (by decide)]; exact ri_i (hg _ _ (SQp_tr qs3v (SQ_P hsp))))))
    · have hsp := SQ_bf oE3v hb (k := 1) (by decide) QA_rf
      exact hQ hb _ (XPb_tr xs3 XPb_fl) (fun G Qtq hg => toQ3 fun V' hV' hW' => j_241w oT3v oE3v hb sk (q_227s hsp.1 (by rw [if_neg (by decide)]; exact ri_i (hg _ _ (SQp_tr qs3v (SQ_P hsp))))))
    rw [w70] at s1 s2
    rw [nX_o1, m13, w70]
    have hE4 := (ER_go hE3 h15 (by rw [z70]; (clear hV hW hn h h12 hc hj hcnt hS hK hQ hE ha h01 fl hkd hE1 H1 x70 oE oE1 oT1 o70 xs0 qs0 toQ nS hk1 h13 hk1' hE2 H2 oE2 y70 qs2 xs2 c3 eS dm1 hS2 e18 e124 nm2 hdcl H2' f2 n2e q254 toQ2 hE2' oE2v oT2v p2 qs2v u70 k2 h14 k2' k2'' hE3 H3 oE3v oT3v p3 qs3v xs3 z70 w70 m13 kq3 p150 toQ3 hS3 h15; omega))).1
    have H4 := HDR_go H3 hE4
    have oE4v : ER b F (o1_ (nX_ (nX_ (nX_ (nX_ M))))) (q1_ (vB_ b (nx_ (nx_ N2)) j (a + 1))) (a + 1 + 1 + 1 + 1) 1 := ER_o1 (ER_vB hE4)
    have p4 : PHF b F F M N (nX_ (nX_ (nX_ (nX_ M)))) (nx_ (nx_ N2)) := PHF_tr p3 (PHF_go H3 (by rw [z70]; (clear hV hW hn h h12 hc hj hcnt hS hK hQ hE ha h01 fl hkd hE1 H1 x70 oE oE1 oT1 o70 xs0 qs0 toQ nS hk1 h13 hk1' hE2 H2 oE2 y70 qs2 xs2 c3 eS dm1 hS2 e18 e124 nm2 hdcl H2' f2 n2e q254 toQ2 hE2' oE2v oT2v p2 qs2v u70 k2 h14 k2' k2'' hE3 H3 oE3v oT3v p3 qs3v xs3 z70 w70 m13 kq3 p150 toQ3 hS3 h15 hE4 H4 oE4v; omega)))
    have hk4 : srS (M 70) (a + 1 + 1 + 1) = some (a + 1 + 1 + 1 + 1) := by unfold srS; rw [if_pos ⟨s1, s2⟩, gS_e h15]
    generalize eM4 : nX_ (nX_ (nX_ (nX_ M))) = M4 at *
    generalize eN4 : nx_ (nx_ N2) = N4 at *
    have f18 : M4 1 18 = M 1 18 := p4.1.2.1 18 (by decide)
    have f4r : ∀ r : Nat, r ≠ 1 → M4 r = M r := fun r hr => by rw [← eM4, nX_ne hr, nX_ne hr, nX_ne hr, nX_ne hr]
    have f4q : b = 0 → ∀ r : Nat, r ≠ 6 → N4 r = N r := fun hb r hr => by
      rw [← eN4, nx_ne hr, nx_ne hr, n2e hb, nx_ne hr, nx_ne hr]
    have m17 : M4 1 7 = M 1 7 := by rw [← eM4, nX_1 (by decide), nX_1 (by decide), nX_1 (by decide), nX_1 (by decide)]
    have nm4 : nm9_ M4 (a + 1) := ⟨gd_c (by rw [f4r 70 (by decide), x70]) hE1.1, by rw [f4r 70 (by decide)]; exact hk1'⟩
    have d4 : ∀ u, DCL M4 (M 1 18) u ↔ DCL M (M 1 18) u := fun u => DCL_c (f4r _ (by decide)) (f4r _ (by decide)) (f4r _ (by decide)) (f4r _ (by decide))
    have c4 : b = 0 → j = M4 124 (M4 1 18) ∧ j < 8 := fun hb => by rw [f18, f4r 124 (by decide)]; have := hcnt hb; (clear hV hW hn h h12 hc hcnt hS hK hQ hE ha h01 fl hkd hE1 H1 x70 oE oE1 oT1 o70 xs0 qs0 toQ nS hk1 h13 hk1' hE2 H2 oE2 y70 qs2 xs2 c3 eS dm1 hS2 e18 e124 nm2 hdcl H2' f2 n2e q254 toQ2 hE2' oE2v oT2v p2 qs2v u70 k2 h14 k2' k2'' hE3 H3 oE3v oT3v p3 qs3v xs3 z70 w70 m13 kq3 p150 toQ3 hS3 s1 s2 h15 hk4 eM4 eN4 hE4 H4 oE4v p4 f18 f4r f4q m17 nm4 d4 hb; omega)
    have qs4v : QPb N (q1_ (vB_ b N4 j (a + 1))) := QPb_tr (PHF_Q p4) (QPb_tr QPb_vB QPb_q1)
    have xs4 : XPb M (o1_ M4) := XPb_tr (PHF_X p4) XPb_o1
    have toQ4 : ∀ {G : Int → mm_ → Prop} {Qtq : qt_}, (∀ V' : vv_, Cl_ wd0 (Tr_ wd0 pg0 (dq + 17)) V' (ri_ G) Qtq m_253 → Wk_ V' → (b = 0 → Tr_ wd0 pg0 (dq + 17) 256 [.inr (.inr 6), .inl j, .inl (M 70 (a + 1 + 1 + 1) - 27), .inl 0, .inl (M 71 (a + 1 + 1 + 1))] (q1_ (vB_ b N4 j (a + 1))) (rv_ fun M6 => V' 113 [rr 6, ii j, ii 1, ii (a + 1), ii (M 71 (a + 1 + 1 + 1)), ii (M 70 (a + 1 + 1 + 1) - 27)] [] M6) Qtq) ∧ (b = 1 → V' 113 [rr 6, ii j, ii 1, ii (a + 1), ii (M 71 (a + 1 + 1 + 1)), ii (M 70 (a + 1 + 1 + 1) - 27)] [] (q1_ (vB_ b N4 j (a + 1))))) → q53 dq j N G Qtq := fun hq => toQ3 fun V' hV' hW' => j_241t oT3v oE3v (by rw [w70]; exact ⟨s1, s2⟩) h15 (by
      rw [nx_q1, vB_nx, eN4, w70]
      refine q_227g (ER_goq oE4v) ?_
      rw [if_pos rfl]
      intro _
      have q16 : q1_ (vB_ b N4 j (a + 1)) 6 16 = b := oE4v.2.2.2.2.2.2.2.1
      rcases h01 with hb | hb
      · rw [if_pos (by (clear hV hW hn h h12 hc hj hcnt hS hK hQ hE ha fl hkd hE1 H1 x70 oE oE1 oT1 o70 xs0 qs0 toQ nS hk1 h13 hk1' hE2 H2 oE2 y70 qs2 xs2 c3 eS dm1 hS2 e18 e124 nm2 hdcl H2' f2 n2e q254 toQ2 hE2' oE2v oT2v p2 qs2v u70 k2 h14 k2' k2'' hE3 H3 oE3v oT3v p3 qs3v xs3 z70 w70 m13 kq3 p150 toQ3 hS3 s1 s2 h15 hk4 eM4 eN4 hE4 H4 oE4v p4 f18 f4r f4q m17 nm4 d4 c4 qs4v xs4 hq hV' hW'; lia))]; exact (hq V' hV' hW').1 hb
      · rw [if_neg (by omega)]; exact (hq V' hV' hW').2 hb)
    have n16 : q1_ (vB_ b N4 j (a + 1)) 6 16 = b := oE4v.2.2.2.2.2.2.2.1
    refine y_127o (d := 126) (N := N4) H4 nm4 (fun hb => by have := c4 hb; (clear hV hW hn h h12 hc hcnt hS hK hQ hE ha h01 fl hkd hE1 H1 x70 oE oE1 oT1 o70 xs0 qs0 toQ nS hk1 h13 hk1' hE2 H2 oE2 y70 qs2 xs2 c3 eS dm1 hS2 e18 e124 nm2 hdcl H2' f2 n2e q254 toQ2 hE2' oE2v oT2v p2 qs2v u70 k2 h14 k2' k2'' hE3 H3 oE3v oT3v p3 qs3v xs3 z70 w70 m13 kq3 p150 toQ3 hS3 s1 s2 h15 hk4 eM4 eN4 hE4 H4 oE4v p4 f18 f4r f4q m17 nm4 d4 c4 qs4v xs4 toQ4 n16 hb; omega)) (by decide) (by (clear hV hW hn h hc hj hcnt hS hK hQ hE h01 fl hkd hE1 H1 x70 oE oE1 oT1 o70 xs0 qs0 toQ nS hk1 hk1' hE2 H2 oE2 y70 qs2 xs2 c3 eS dm1 hS2 e18 e124 nm2 hdcl H2' f2 n2e q254 toQ2 hE2' oE2v oT2v p2 qs2v u70 k2 k2' k2'' hE3 H3 oE3v oT3v p3 qs3v xs3 z70 w70 kq3 p150 toQ3 hS3 s1 s2 hk4 eM4 eN4 hE4 H4 oE4v p4 f18 f4r f4q m17 nm4 d4 c4 qs4v xs4 toQ4 n16; omega)) (fun hov => ?_) (fun hb ov => ?_)
    rotate_left
    · have sp2 : sp_ (bf_ (q1_ (vQ_ b N4 j (a + 1) (M 70 (a + 1 + 1 + 1) - 27) 0)) 2 (M 71 (a + 1 + 1 + 1))) := bf_sp (by rw [q1_6 (by decide), vQ_6]; exact hE4.2.2.2.2.2.2.2.1.trans hb) (by decide)
      have q12 : q1_ (vQ_ b N4 j (a + 1) (M 70 (a + 1 + 1 + 1) - 27) 0) 6 12 = a + 1 + 1 + 1 + 1 := by rw [q1_6 (by decide), vQ_6]; exact hE4.2.2.1
      refine hQ hb _ (XPb_tr xs4 XPb_fl) (fun G Qtq hg => toQ4 fun V' hV' hW' => ⟨fun _ => ?_, fun hb1 => by (clear hV hW hn h h12 hc hj hcnt hS hK hQ hE ha h01 fl hkd hE1 H1 x70 oE oE1 oT1 o70 xs0 qs0 toQ nS hk1 h13 hk1' hE2 H2 oE2 y70 qs2 xs2 c3 eS dm1 hS2 e18 e124 nm2 hdcl H2' f2 n2e q254 toQ2 hE2' oE2v oT2v p2 qs2v u70 k2 h14 k2' k2'' hE3 H3 oE3v oT3v p3 qs3v xs3 z70 w70 m13 kq3 p150 toQ3 hS3 s1 s2 h15 hk4 eM4 eN4 hE4 H4 oE4v p4 f18 f4r f4q m17 nm4 d4 c4 qs4v xs4 toQ4 n16 ov sp2 q12 hg hV' hW'; omega)⟩)
      refine j_256o H4 hb (by omega) (by decide) (fun e => absurd ov e) (fun _ => ?_)
      have hq : QPb N (bf_ (q1_ (vQ_ b N4 j (a + 1) (M 70 (a + 1 + 1 + 1) - 27) 0)) 2 (M 71 (a + 1 + 1 + 1))) := by
        refine QPb_tr (PHF_Q p4) (QPb_tr ?_ (QPb_tr QPb_q1 (QF_P bf_QF)))
        exact ⟨fun r hr => vQ_r (fun e => hr (by unfold QPRr; (clear hV hW hn h h12 hc hj hcnt hS hK hQ hE ha h01 fl hkd hE1 H1 x70 oE oE1 oT1 o70 xs0 qs0 toQ nS hk1 h13 hk1' hE2 H2 oE2 y70 qs2 xs2 c3 eS dm1 hS2 e18 e124 nm2 hdcl H2' f2 n2e q254 toQ2 hE2' oE2v oT2v p2 qs2v u70 k2 h14 k2' k2'' hE3 H3 oE3v oT3v p3 qs3v xs3 z70 w70 m13 kq3 p150 toQ3 hS3 s1 s2 h15 hk4 eM4 eN4 hE4 H4 oE4v p4 f18 f4r f4q m17 nm4 d4 c4 qs4v xs4 toQ4 n16 hb ov sp2 q12 hg hV' hW' hr; omega))) (fun e => hr (by revert e; unfold vqL QPRr; simp only [List.mem_cons, List.not_mem_nil, or_false]; (clear hV hW hn h h12 hc hj hcnt hS hK hQ hE ha h01 fl hkd hE1 H1 x70 oE oE1 oT1 o70 xs0 qs0 toQ nS hk1 h13 hk1' hE2 H2 oE2 y70 qs2 xs2 c3 eS dm1 hS2 e18 e124 nm2 hdcl H2' f2 n2e q254 toQ2 hE2' oE2v oT2v p2 qs2v u70 k2 h14 k2' k2'' hE3 H3 oE3v oT3v p3 qs3v xs3 z70 w70 m13 kq3 p150 toQ3 hS3 s1 s2 h15 hk4 eM4 eN4 hE4 H4 oE4v p4 f18 f4r f4q m17 nm4 d4 c4 qs4v xs4 toQ4 n16 hb ov sp2 q12 hg hV' hW' hr; omega))), fun i _ => by rw [vQ_6]⟩
      refine b_253_113 (Tr_mono _) hV' hW' _ _ _ _ _ _ ?_
      intro _
      rw [if_pos (by have := sp2.2; exact this)]
      have e61 : bf_ (q1_ (vQ_ b N4 j (a + 1) (M 70 (a + 1 + 1 + 1) - 27) 0)) 2 (M 71 (a + 1 + 1 + 1)) 6 61 = M4 1 18 := by rw [bf_6 (by decide) (by decide), q1_6 (by decide), vQ_6]; exact H4.1.1.1.2.1.2.1
      have v18 := H4.1.1.1.2.1.2.2
      refine ⟨by rw [e61]; (clear hV hW hn h h12 hc hj hcnt hS hK hQ hE ha h01 fl hkd hE1 H1 x70 oE oE1 oT1 o70 xs0 qs0 toQ nS hk1 h13 hk1' hE2 H2 oE2 y70 qs2 xs2 c3 eS dm1 hS2 e18 e124 nm2 hdcl H2' f2 n2e q254 toQ2 hE2' oE2v oT2v p2 qs2v u70 k2 h14 k2' k2'' hE3 H3 oE3v oT3v p3 qs3v xs3 z70 w70 m13 kq3 p150 toQ3 hS3 s1 s2 h15 hk4 eM4 eN4 hE4 H4 oE4v p4 f18 f4r f4q m17 nm4 d4 c4 qs4v xs4 toQ4 n16 hb ov sp2 q12 hg hV' hW' hq; omega), ?_⟩
      have sp3 : ∀ i v, sp_ (up_ (bf_ (q1_ (vQ_ b N4 j (a + 1) (M 70 (a + 1 + 1 + 1) - 27) 0)) 2 (M 71 (a + 1 + 1 + 1))) 170 i v) := fun i v => sp_up (by decide) sp2
      refine q_242s (sp3 _ _) (q53_s hV' hW' (sp3 _ _) fun v => hg v _ ⟨sp3 _ _, ?_, ?_, ?_, QPb_tr hq ⟨fun r hr => up_ne (fun e => hr (by unfold QPRr; omega)), fun i _ => by rw [up_ne (by decide)]⟩⟩)
      · unfold in9_; rw [up_ne (by decide), bf_6 (by decide) (by decide), q12]; (clear hV hW hn h hc hj hcnt hS hK hQ hE h01 fl hkd hE1 H1 x70 oE oE1 oT1 o70 xs0 qs0 toQ nS hk1 hk1' hE2 H2 oE2 y70 qs2 xs2 c3 eS dm1 hS2 e18 e124 nm2 hdcl H2' f2 n2e q254 toQ2 hE2' oE2v oT2v p2 qs2v u70 k2 k2' k2'' hE3 H3 oE3v oT3v p3 qs3v xs3 z70 w70 kq3 p150 toQ3 hS3 s1 s2 hk4 eM4 eN4 hE4 H4 oE4v p4 f18 f4r f4q m17 nm4 d4 c4 qs4v xs4 toQ4 n16 hb ov sp2 hg hV' hW' hq e61 v18 sp3; omega)
      · rw [up_ne (by decide)]; unfold bf_ flX_; rw [up_off (by decide), up_at, up_off (by decide), up_at]
      · refine ⟨?_, fl_b7 (by assumption)⟩; rw [up_ne (by decide)]; unfold bf_ flX_; rw [up_at, up_at, o1_r (by decide), f4r 71 (by decide)]
    obtain ⟨F5, N5, H6, p6, cn6, r6, dc6, n50, n51⟩ := pa_end (s := M 70 (a + 1 + 1 + 1) - 28) (j := j) (t := a + 1) H4 nm4 (by omega) (fun hb u hu => by rw [f18, d4] at hu; have := h.2.2.1 hb u hu; (clear hV hW hn h h12 hc hj hcnt hS hK hQ hE ha h01 fl hkd hE1 H1 x70 oE oE1 oT1 o70 xs0 qs0 toQ nS hk1 h13 hk1' hE2 H2 oE2 y70 qs2 xs2 c3 eS dm1 hS2 e18 e124 nm2 hdcl H2' f2 n2e q254 toQ2 hE2' oE2v oT2v p2 qs2v u70 k2 h14 k2' k2'' hE3 H3 oE3v oT3v p3 qs3v xs3 z70 w70 kq3 p150 toQ3 hS3 s1 s2 h15 hk4 eM4 eN4 hE4 H4 oE4v p4 f18 f4r f4q m17 nm4 d4 c4 qs4v xs4 toQ4 n16 hov hb hu; omega)) (by (clear hV hW hn h hc hcnt hS hK hQ hE h01 fl hkd hE1 H1 x70 oE oE1 oT1 o70 xs0 qs0 toQ nS hk1 hk1' hE2 H2 oE2 y70 qs2 xs2 eS e18 e124 nm2 hdcl H2' f2 q254 toQ2 hE2' oE2v oT2v p2 qs2v u70 k2 k2' k2'' hE3 H3 oE3v oT3v p3 qs3v xs3 z70 w70 p150 toQ3 s1 s2 hk4 eM4 eN4 hE4 H4 oE4v p4 f18 f4r m17 nm4 d4 qs4v xs4 toQ4 n16; lia)) (fun hb => by rw [f18, f4r 124 (by decide), f4q hb 170 (by decide)]; exact hcnt hb) hov (by (clear hV hW hn h h12 hc hj hcnt hS hK hQ hE ha h01 fl hkd hE1 H1 x70 oE oE1 oT1 o70 xs0 qs0 toQ nS hk1 h13 hk1' hE2 H2 oE2 y70 qs2 xs2 c3 eS dm1 hS2 e18 e124 nm2 hdcl H2' f2 n2e q254 toQ2 hE2' oE2v oT2v p2 qs2v u70 k2 h14 k2' k2'' hE3 H3 oE3v oT3v p3 qs3v xs3 z70 w70 m13 kq3 p150 toQ3 hS3 h15 hk4 eM4 eN4 hE4 H4 oE4v p4 f18 f4r f4q m17 nm4 d4 c4 qs4v xs4 toQ4 n16 hov; omega)) (by rw [m17]; (clear hV hW hn h h12 hc hj hcnt hS hK hQ hE ha h01 hkd hE1 H1 x70 oE oE1 oT1 o70 xs0 qs0 toQ nS hk1 h13 hk1' hE2 H2 oE2 y70 qs2 xs2 c3 eS dm1 hS2 e18 e124 nm2 hdcl H2' f2 n2e q254 toQ2 hE2' oE2v oT2v p2 qs2v u70 k2 h14 k2' k2'' hE3 H3 oE3v oT3v p3 qs3v xs3 z70 w70 kq3 p150 toQ3 hS3 s1 s2 h15 hk4 eM4 eN4 hE4 H4 oE4v p4 f18 f4r f4q nm4 d4 c4 qs4v xs4 toQ4 n16 hov; omega))
    rw [show M 70 (a + 1 + 1 + 1) - 28 + 1 = M 70 (a + 1 + 1 + 1) - 27 by (clear hV hW hn h h12 hc hj hcnt hS hK hQ hE ha h01 fl hkd hE1 H1 x70 oE oE1 oT1 o70 xs0 qs0 toQ nS hk1 h13 hk1' hE2 H2 oE2 y70 qs2 xs2 c3 eS dm1 hS2 e18 e124 nm2 hdcl H2' f2 n2e q254 toQ2 hE2' oE2v oT2v p2 qs2v u70 k2 h14 k2' k2'' hE3 H3 oE3v oT3v p3 qs3v xs3 z70 w70 m13 kq3 p150 toQ3 hS3 s1 s2 h15 hk4 eM4 eN4 hE4 H4 oE4v p4 f18 f4r f4q m17 nm4 d4 c4 qs4v xs4 toQ4 n16 hov H6 p6 cn6 r6 dc6 n50 n51; omega)] at n50
    rw [f18, f4r 126 (by decide)] at cn6
    rw [f18] at dc6 n50
    refine pa_main hV hW (l_296 hV hW n) hn ha (by (clear hV hW hn h hc hcnt hS hK hQ hE h01 fl hkd hE1 H1 x70 oE oE1 oT1 o70 xs0 qs0 toQ nS hk1 hk1' hE2 H2 oE2 y70 qs2 xs2 eS e18 e124 nm2 hdcl H2' f2 q254 toQ2 hE2' oE2v oT2v p2 qs2v u70 k2 k2' k2'' hE3 H3 oE3v oT3v p3 qs3v xs3 z70 w70 p150 toQ3 s1 s2 hk4 eM4 eN4 hE4 H4 oE4v p4 f18 f4r m17 nm4 d4 qs4v xs4 toQ4 n16 H6 p6 r6; lia)) h01 (fun dm hd => by rw [eS dm hd, tS_e k2' h14, Option.bind_some, hk4, Option.bind_some]) dm1 hS hK hQ H6 (PHFx_on (PHFx_tr (PHFx_w p4) p6) (fun _ v hv => by rw [hv.2, hE.2.1]; omega) (fun hb v hv => by (clear hV hW hn h h12 hc hj hcnt hS hK hQ hE ha h01 fl hkd hE1 H1 x70 oE oE1 oT1 o70 xs0 qs0 toQ nS hk1 h13 hk1' hE2 H2 oE2 y70 qs2 xs2 c3 eS dm1 hS2 e18 e124 nm2 hdcl H2' f2 n2e q254 toQ2 hE2' oE2v oT2v p2 qs2v u70 k2 h14 k2' k2'' hE3 H3 oE3v oT3v p3 qs3v xs3 z70 w70 m13 kq3 p150 toQ3 hS3 s1 s2 h15 hk4 eM4 eN4 hE4 H4 oE4v p4 f18 f4r f4q m17 nm4 d4 c4 qs4v xs4 toQ4 n16 hov H6 p6 cn6 r6 dc6 n50 n51; omega))) cn6 (r6.trans (f4r 70 (by decide))) dc6 (fun G Qtq hq => toQ4 fun V' hV' hW' => ⟨fun hb => ?_, fun hb => ?_⟩)
    · refine j_256o H4 hb (by omega) (by decide) (fun _ => ?_) (fun e => absurd e (hov hb))
      have v61 : q1_ (vQ_ b N4 j (a + 1) (M 70 (a + 1 + 1 + 1) - 27) 0) 6 61 = M 1 18 := by rw [q1_6 (by decide), vQ_6, H4.1.1.1.2.1.2.1, f18]
      have v16 : q1_ (vQ_ b N4 j (a + 1) (M 70 (a + 1 + 1 + 1) - 27) 0) 6 16 = 0 := by rw [q1_6 (by decide), vQ_6]; exact hE4.2.2.2.2.2.2.2.1.trans hb
      have n50' := n50 hb
      generalize vQ_ b N4 j (a + 1) (M 70 (a + 1 + 1 + 1) - 27) 0 = N6 at *
      refine b_253_113 (Tr_mono _) hV' hW' _ _ _ _ _ _ ?_
      intro _
      rw [if_pos v16, v61, w32_id (x := j + 1) (by (clear hV hW hn h h12 hc hcnt hS hK hQ hE ha h01 fl hkd hE1 H1 x70 oE oE1 oT1 o70 xs0 qs0 toQ nS hk1 h13 hk1' hE2 H2 oE2 y70 qs2 xs2 c3 eS dm1 hS2 e18 e124 nm2 hdcl H2' f2 n2e q254 toQ2 hE2' oE2v oT2v p2 qs2v u70 k2 h14 k2' k2'' hE3 H3 oE3v oT3v p3 qs3v xs3 z70 w70 m13 kq3 p150 toQ3 hS3 s1 s2 h15 hk4 eM4 eN4 hE4 H4 oE4v p4 f18 f4r f4q m17 nm4 d4 c4 qs4v xs4 toQ4 n16 hov H6 p6 cn6 r6 dc6 n51 hq hV' hW' hb n50 v61 v16 n50'; omega)) (by (clear hV hW hn h h12 hc hcnt hS hK hQ hE ha h01 fl hkd hE1 H1 x70 oE oE1 oT1 o70 xs0 qs0 toQ nS hk1 h13 hk1' hE2 H2 oE2 y70 qs2 xs2 c3 eS dm1 hS2 e18 e124 nm2 hdcl H2' f2 n2e q254 toQ2 hE2' oE2v oT2v p2 qs2v u70 k2 h14 k2' k2'' hE3 H3 oE3v oT3v p3 qs3v xs3 z70 w70 m13 kq3 p150 toQ3 hS3 s1 s2 h15 hk4 eM4 eN4 hE4 H4 oE4v p4 f18 f4r f4q m17 nm4 d4 c4 qs4v xs4 toQ4 n16 hov H6 p6 cn6 r6 dc6 n51 hq hV' hW' hb n50 v61 v16 n50'; omega)), up_q1 (by decide)]
      have := hq V' hV' hW'
      rw [w32_id (x := j + 1) (by (clear hV hW hn h h12 hc hcnt hS hK hQ hE ha h01 fl hkd hE1 H1 x70 oE oE1 oT1 o70 xs0 qs0 toQ nS hk1 h13 hk1' hE2 H2 oE2 y70 qs2 xs2 c3 eS dm1 hS2 e18 e124 nm2 hdcl H2' f2 n2e q254 toQ2 hE2' oE2v oT2v p2 qs2v u70 k2 h14 k2' k2'' hE3 H3 oE3v oT3v p3 qs3v xs3 z70 w70 m13 kq3 p150 toQ3 hS3 s1 s2 h15 hk4 eM4 eN4 hE4 H4 oE4v p4 f18 f4r f4q m17 nm4 d4 c4 qs4v xs4 toQ4 n16 hov H6 p6 cn6 r6 dc6 n51 hq hV' hW' hb n50 v61 v16 n50' this; omega)) (by (clear hV hW hn h h12 hc hcnt hS hK hQ hE ha h01 fl hkd hE1 H1 x70 oE oE1 oT1 o70 xs0 qs0 toQ nS hk1 h13 hk1' hE2 H2 oE2 y70 qs2 xs2 c3 eS dm1 hS2 e18 e124 nm2 hdcl H2' f2 n2e q254 toQ2 hE2' oE2v oT2v p2 qs2v u70 k2 h14 k2' k2'' hE3 H3 oE3v oT3v p3 qs3v xs3 z70 w70 m13 kq3 p150 toQ3 hS3 s1 s2 h15 hk4 eM4 eN4 hE4 H4 oE4v p4 f18 f4r f4q m17 nm4 d4 c4 qs4v xs4 toQ4 n16 hov H6 p6 cn6 r6 dc6 n51 hq hV' hW' hb n50 v61 v16 n50' this; omega)), n50'] at this
      exact ⟨by have := h.1.1.1.2.1.2.2; (clear hV hW hn h h12 hc hj hcnt hS hK hQ hE ha h01 fl hkd hE1 H1 x70 oE oE1 oT1 o70 xs0 qs0 toQ nS hk1 h13 hk1' hE2 H2 oE2 y70 qs2 xs2 c3 eS dm1 hS2 e18 e124 nm2 hdcl H2' f2 n2e q254 toQ2 hE2' oE2v oT2v p2 qs2v u70 k2 h14 k2' k2'' hE3 H3 oE3v oT3v p3 qs3v xs3 z70 w70 m13 kq3 p150 toQ3 hS3 s1 s2 h15 hk4 eM4 eN4 hE4 H4 oE4v p4 f4r f4q m17 nm4 d4 c4 qs4v xs4 toQ4 n16 hov H6 p6 cn6 r6 dc6 n51 hq hV' hW' hb n50 v16 n50'; omega), this⟩
    · have ev : vB_ b N4 j (a + 1) = N5 := by rw [n51 hb]; unfold vB_; rw [if_neg (by (clear hV hW hn h h12 hc hj hcnt hS hK hQ hE ha h01 fl hkd hE1 H1 x70 oE oE1 oT1 o70 xs0 qs0 toQ nS hk1 h13 hk1' hE2 H2 oE2 y70 qs2 xs2 c3 eS dm1 hS2 e18 e124 nm2 hdcl H2' f2 n2e q254 toQ2 hE2' oE2v oT2v p2 qs2v u70 k2 h14 k2' k2'' hE3 H3 oE3v oT3v p3 qs3v xs3 z70 w70 m13 kq3 p150 toQ3 hS3 s1 s2 h15 hk4 eM4 eN4 hE4 H4 oE4v p4 f18 f4r f4q m17 nm4 d4 c4 qs4v xs4 toQ4 n16 hov H6 p6 cn6 r6 dc6 n50 n51 hq hV' hW'; lia))]
      rw [ev] at n16 ⊢
      refine b_253_113 (Tr_mono _) hV' hW' _ _ _ _ _ _ ?_
      intro _
      rw [if_neg (by (clear hV hW hn h h12 hc hj hcnt hS hK hQ hE ha h01 fl hkd hE1 H1 x70 oE oE1 oT1 o70 xs0 qs0 toQ nS hk1 h13 hk1' hE2 H2 oE2 y70 qs2 xs2 c3 eS dm1 hS2 e18 e124 nm2 hdcl H2' f2 n2e q254 toQ2 hE2' oE2v oT2v p2 qs2v u70 k2 h14 k2' k2'' hE3 H3 oE3v oT3v p3 qs3v xs3 z70 w70 m13 kq3 p150 toQ3 hS3 s1 s2 h15 hk4 eM4 eN4 hE4 H4 oE4v p4 f18 f4r f4q m17 nm4 d4 c4 qs4v xs4 toQ4 hov H6 p6 cn6 r6 dc6 n50 n51 hq hV' hW' ev; omega))]
      exact hq V' hV' hW'
end PL2
end T236_pr
section T237_tm
/-! a process's timers: a timer more (pass 1) -/
def tX_ (M : mm_) (t : Int) : mm_ := up_ (up_ M 61 (3 * M 1 18 + M 126 (M 1 18)) t) 126 (M 1 18) (M 126 (M 1 18) + 1)
def tQ_ (N : mm_) (n t : Int) : mm_ := up_ (up_ (up_ N 178 (3 * N 6 61 + n) (N 151 t)) 185 (3 * N 6 61 + n) (N 150 t)) 173 (N 6 61) (N 173 (N 6 61) + 1)
section TM2
variable {b F F' : Int} {M N M1 N1 : mm_} {a a' T t n kk tk ee : Int}
theorem tX_r [Inhabited gh_] {r : Nat} (h : r ≠ 61) (h' : r ≠ 126) : tX_ M t r = M r := by unfold tX_; rw [up_ne h', up_ne h]
theorem tQ_r [Inhabited gh_] {r : Nat} (h : r ≠ 178) (h' : r ≠ 185) (h'' : r ≠ 173) : tQ_ N n t r = N r := by unfold tQ_; rw [up_ne h'', up_ne h', up_ne h]
theorem HDR_t [Inhabited gh_] (h : HDR b F M N a) (hb : b = 0) (ht : nm9_ M t) (hta : t < a) (hlt : ∀ u, DCL M (M 1 18) u → u < t) (h126 : M 126 (M 1 18) < 3) (hf : M 1 7 + 1 + 8 * (1201 - a) ≤ 1000000000 - (gg_ : Int)) :
    HDR b (Fd_ F M N t) (tX_ (nd_ M N t) t) (tQ_ N (M 126 (M 1 18)) t) a := by
  obtain ⟨h1, h2, h3, h4⟩ := h
  have hTS := h1.1
  have hT := hTS.1.1
  have hV := hTS.1.2.1
  have hE := TS_E hTS
  have hpl := (hT t ht.1).2.2.2.1
  have hF : Fd_ F M N t ≤ F := Fd_le
  have m1 : ∀ i : Int, i ≠ 4 → i ≠ 5 → i ≠ 7 → tX_ (nd_ M N t) t 1 i = M 1 i := fun i h4 h5 h7 => by rw [tX_r (by decide) (by decide), nd_1 h4 h5 h7]
  have e18 : nd_ M N t 1 18 = M 1 18 := nd_1 (by decide) (by decide) (by decide)
  have e126 : nd_ M N t 126 = M 126 := nd_r (by decide)
  have v61 : N 6 61 = M 1 18 := hV.2.1
  have xr : ∀ r : Nat, r ≠ 1 → r ≠ 61 → r ≠ 126 → tX_ (nd_ M N t) t r = M r := fun r h1 h2 h3 => by rw [tX_r h2 h3, nd_r h1]
  have qr : ∀ r : Nat, r ≠ 178 → r ≠ 185 → r ≠ 173 → tQ_ N (M 126 (M 1 18)) t r = N r := fun r h h' h'' => tQ_r h h' h''
  have x61 : ∀ i, tX_ (nd_ M N t) t 61 i = if i = 3 * M 1 18 + M 126 (M 1 18) then t else M 61 i := fun i => by
    unfold tX_
    rw [e18, e126, up_ne (by decide)]
    by_cases c : i = 3 * M 1 18 + M 126 (M 1 18)
    · rw [if_pos c, c, up_at]
    · rw [if_neg c, up_of2 c, nd_r (by decide)]
  have x126 : tX_ (nd_ M N t) t 126 (M 1 18) = M 126 (M 1 18) + 1 := by unfold tX_; rw [e18, e126, up_at]
  have q178 : ∀ i, tQ_ N (M 126 (M 1 18)) t 178 i = if i = 3 * M 1 18 + M 126 (M 1 18) then N 151 t else N 178 i := fun i => by
    unfold tQ_
    rw [v61, up_ne (by decide), up_ne (by decide)]
    by_cases c : i = 3 * M 1 18 + M 126 (M 1 18)
    · rw [if_pos c, c, up_at]
    · rw [if_neg c, up_of2 c]
  have q185 : ∀ i, tQ_ N (M 126 (M 1 18)) t 185 i = if i = 3 * M 1 18 + M 126 (M 1 18) then N 150 t else N 185 i := fun i => by
    unfold tQ_
    rw [v61, up_ne (by decide)]
    by_cases c : i = 3 * M 1 18 + M 126 (M 1 18)
    · rw [if_pos c, c, up_at]
    · rw [if_neg c, up_of2 c, up_ne (by decide)]
  have q173 : tQ_ N (M 126 (M 1 18)) t 173 (M 1 18) = N 173 (M 1 18) + 1 := by unfold tQ_; rw [v61, up_at]
  have n7 := nd_7 (M := M) (N := N) (t := t)
  generalize eM : tX_ (nd_ M N t) t = M9 at *
  generalize eN : tQ_ N (M 126 (M 1 18)) t = N9 at *
  have k70 : M9 70 = M 70 := xr 70 (by decide) (by decide) (by decide)
  have k71 : M9 71 = M 71 := xr 71 (by decide) (by decide) (by decide)
  have q151 : N9 151 = N 151 := qr 151 (by decide) (by decide) (by decide)
  have q6 : N9 6 = N 6 := qr 6 (by decide) (by decide) (by decide)
  have x5 : M9 5 = M 5 := xr 5 (by decide) (by decide) (by decide)
  have x18 : M9 1 18 = M 1 18 := m1 18 (by decide) (by decide) (by decide)
  have hT9 : Tks M9 N9 := Tks_r hT (fun r hr => xr r (fun e => by rw [e] at hr; revert hr; decide) (fun e => by rw [e] at hr; revert hr; decide) (fun e => by rw [e] at hr; revert hr; decide)) (fun r hr => qr r (fun e => by rw [e] at hr; revert hr; decide) (fun e => by rw [e] at hr; revert hr; decide) (fun e => by rw [e] at hr; revert hr; decide))
  have nm : ∀ u, nm9_ M u → nm9_ M9 u := fun u hu => nm9_r hu k70
  obtain ⟨w1, w2, w3, w4, ⟨w5, w6, w7⟩, ⟨w8, w9, w10⟩, w11, w12⟩ := id hV
  obtain ⟨⟨b1, b2, b3, bS, bD⟩, b4, b5, b6⟩ := h2
  have hV9 : VT M9 N9 := by
    refine ⟨by rw [m1 2 (by decide) (by decide) (by decide)]; exact w1, by rw [q6, x18]; exact w2, by rw [x18]; exact w3, by rw [x18]; exact w4, ?_, ?_, ?_, ?_⟩
    · rw [x18, xr 124 (by decide) (by decide) (by decide), qr 171 (by decide) (by decide) (by decide)]; exact ⟨w5, w6, w7⟩
    · rw [x18, x126, q173]; (clear hb ht hta hlt hf h1 h3 h4 hTS hT hV hE hpl hF e18 e126 v61 n7 eM m1 xr x61 eN qr q178 q185 q173 k70 k71 q151 q6 x5 x18 hT9 nm w1 w2 w3 w4 w5 w6 w7 w9 w11 w12 b1 b2 b3 bS bD b4 b5 b6; lia)
    · rw [x18, xr 124 (by decide) (by decide) (by decide), xr 60 (by decide) (by decide) (by decide), xr 130 (by decide) (by decide) (by decide), xr 131 (by decide) (by decide) (by decide), xr 132 (by decide) (by decide) (by decide), qr 177 (by decide) (by decide) (by decide), qr 182 (by decide) (by decide) (by decide), qr 183 (by decide) (by decide) (by decide), qr 184 (by decide) (by decide) (by decide), q151]
      exact fun k k0 k1 => ⟨nm _ (w11 k k0 k1).1, (w11 k k0 k1).2⟩
    · rw [x18, x126]
      intro k k0 k1
      rw [x61, q178, q151]
      by_cases c : k = M 126 (M 1 18)
      · rw [if_pos (by (clear hb ht hta hlt h126 hf h1 h3 h4 hTS hT hV hE hpl hF e18 e126 v61 n7 eM m1 xr x61 eN qr q178 q185 q173 k70 k71 q151 q6 x5 x18 hT9 nm w1 w2 w3 w4 w5 w6 w7 w8 w9 w11 w12 b1 b2 b3 bS bD b4 b5 b6 k0 k1; lia)), if_pos (by (clear hb ht hta hlt h126 hf h1 h3 h4 hTS hT hV hE hpl hF e18 e126 v61 n7 eM m1 xr x61 eN qr q178 q185 q173 k70 k71 q151 q6 x5 x18 hT9 nm w1 w2 w3 w4 w5 w6 w7 w8 w9 w11 w12 b1 b2 b3 bS bD b4 b5 b6 k0 k1; lia))]; exact ⟨nm t ht, rfl⟩
      · rw [if_neg (by (clear hb ht hta hlt h126 hf h1 h3 h4 hTS hT hV hE hpl hF e18 e126 v61 n7 eM m1 xr x61 eN qr q178 q185 q173 k70 k71 q151 q6 x5 x18 hT9 nm w1 w2 w3 w4 w5 w6 w7 w8 w9 w11 w12 b1 b2 b3 bS bD b4 b5 b6 k0 k1; lia)), if_neg (by (clear hb ht hta hlt h126 hf h1 h3 h4 hTS hT hV hE hpl hF e18 e126 v61 n7 eM m1 xr x61 eN qr q178 q185 q173 k70 k71 q151 q6 x5 x18 hT9 nm w1 w2 w3 w4 w5 w6 w7 w8 w9 w11 w12 b1 b2 b3 bS bD b4 b5 b6 k0 k1; lia))]
        have r := w12 k k0 (by (clear hb ht hta hlt h126 hf h1 h3 h4 hTS hT hV hE hpl hF e18 e126 v61 n7 eM m1 xr x61 eN qr q178 q185 q173 k70 k71 q151 q6 x5 x18 hT9 nm w1 w2 w3 w4 w5 w6 w7 w8 w9 w11 w12 b1 b2 b3 bS bD b4 b5 b6 k0; omega))
        exact ⟨nm _ r.1, r.2⟩
  have hE9 : ER b (Fd_ F M N t) M9 N9 a 0 := by
    have e0 := ER_nd (t := t) hE hb (by (clear hb ht hta hlt h126 hf h1 h3 h4 hTS hT hV hE hF e18 e126 v61 n7 eM m1 xr x61 x126 eN qr q178 q185 q173 k70 k71 q151 q6 x5 x18 hT9 nm w1 w2 w3 w4 w5 w6 w7 w8 w9 w10 w11 w12 b1 b2 b3 bS bD b4 b5 b6 hV9; lia)) (by omega)
    have e1 : ER b (Fd_ F M N t) M9 N a 0 := ER_X2 e0 (by rw [k70, nd_r (by decide)]) (fun i _ _ => by rw [← eM, tX_r (by decide) (by decide)]) (by rw [x5, nd_r (by decide)]) (by rw [← eM, tX_r (by decide) (by decide)])
    exact ER_Q e1 (by rw [q6]) (by rw [q6]) (by rw [q6]) (by rw [q6]) (by rw [q6])
  have hG9 : GT b (Fd_ F M N t) M9 N9 (M9 71 a) := by
    obtain ⟨⟨g1, g2⟩, ⟨g3, g4, g5⟩, g6, g7⟩ := hTS.2.1
    refine ⟨⟨⟨by rw [x5, q6]; exact g1.1, fun k k0 k1 => ?_⟩, ?_⟩, ⟨⟨by rw [x5, q6]; exact g3.1, fun k k0 k1 => ?_⟩, ?_, fun hb1 => by (clear ht hta hlt h126 hf h1 h3 h4 hTS hT hV hE hpl hF e18 e126 v61 n7 eM m1 xr x61 x126 eN qr q178 q185 q173 k70 k71 q151 q6 x5 x18 hT9 nm w1 w2 w3 w4 w5 w6 w7 w8 w9 w10 w11 w12 b1 b2 b3 bS bD b4 b5 b6 hV9 hE9 g1 g2 g3 g4 g5 g6 g7; lia)⟩, ⟨⟨by rw [x5, q6]; exact g6.1, fun k k0 k1 => ?_⟩, fun hb1 => by omega⟩⟩
    · rw [x5] at k1
      rw [xr 56 (by decide) (by decide) (by decide), qr 152 (by decide) (by decide) (by decide), q151]
      exact ⟨nm _ (g1.2 k k0 k1).1, (g1.2 k k0 k1).2⟩
    · rw [x5, xr 112 (by decide) (by decide) (by decide), xr 113 (by decide) (by decide) (by decide), qr 156 (by decide) (by decide) (by decide), qr 157 (by decide) (by decide) (by decide)]; exact g2
    · rw [x5] at k1
      rw [xr 58 (by decide) (by decide) (by decide), qr 154 (by decide) (by decide) (by decide), q151]
      exact ⟨nm _ (g3.2 k k0 k1).1, (g3.2 k k0 k1).2⟩
    · rw [x5, qr 170 (by decide) (by decide) (by decide), qr 182 (by decide) (by decide) (by decide), qr 183 (by decide) (by decide) (by decide)]; exact g4
    · rw [x5] at k1
      rw [xr 57 (by decide) (by decide) (by decide), qr 153 (by decide) (by decide) (by decide), q151]
      exact ⟨nm _ (g6.2 k k0 k1).1, (g6.2 k k0 k1).2⟩
  have hL9 : LBT b (Fd_ F M N t) M9 N9 a := by
    obtain ⟨l1, l2, l3⟩ := hTS.2.2.1
    unfold LBT lbl9
    rw [x18, xr 128 (by decide) (by decide) (by decide), xr 62 (by decide) (by decide) (by decide), k71, qr 175 (by decide) (by decide) (by decide), qr 180 (by decide) (by decide) (by decide), qr 187 (by decide) (by decide) (by decide), q151]
    refine ⟨⟨l1.1, fun k k0 k1 => ⟨nm _ (l1.2 k k0 k1).1, (l1.2 k k0 k1).2⟩⟩, fun k k0 k1 => ?_, fun _ => .inl h4.1, fun hb1 => by (clear ht hta hlt h126 hf h1 h3 h4 hTS hT hV hE hpl hF e18 e126 v61 n7 eM m1 xr x61 x126 eN qr q178 q185 q173 k70 k71 q151 q6 x5 x18 hT9 nm w1 w2 w3 w4 w5 w6 w7 w8 w9 w10 w11 w12 b1 b2 b3 bS bD b4 b5 b6 hV9 hE9 hG9 l1 l2 l3; lia)⟩
    have r := l2 k k0 k1
    exact ⟨r.1, r.2.1, fun i i0 i1 => ⟨(r.2.2 i i0 i1).1, fun e => Int.le_trans hF ((r.2.2 i i0 i1).2 e)⟩⟩
  have h99 : stt9 M9 N9 := by
    obtain ⟨l1, l2⟩ := hTS.2.2.2.1
    unfold stt9
    rw [x18, xr 123 (by decide) (by decide) (by decide), xr 59 (by decide) (by decide) (by decide), qr 174 (by decide) (by decide) (by decide), qr 179 (by decide) (by decide) (by decide), q151]
    exact ⟨l1, fun k k0 k1 => ⟨nm _ (l2 k k0 k1).1, (l2 k k0 k1).2⟩⟩
  have m7 : M9 1 7 = nd_ M N t 1 7 := by rw [← eM, tX_r (by decide) (by decide)]
  have hTS9 : TS b (Fd_ F M N t) M9 N9 a := TS_mk hTS hT9 hV9 hE9 hG9 hL9 h99 (fun i hi => m1 i (by (clear hb ht hta hlt h126 hf h1 h3 h4 hTS hT hV hE hpl hF e18 e126 v61 n7 eM m1 xr x61 x126 eN qr q178 q185 q173 k70 k71 q151 q6 x5 x18 hT9 nm w1 w2 w3 w4 w5 w6 w7 w8 w9 w10 w11 w12 b1 b2 b3 bS bD b4 b5 b6 hV9 hE9 hG9 hL9 h99 m7; lia)) (by (clear hb ht hta hlt h126 hf h1 h3 h4 hTS hT hV hE hpl hF e18 e126 v61 n7 eM m1 xr x61 x126 eN qr q178 q185 q173 k70 k71 q151 q6 x5 x18 hT9 nm w1 w2 w3 w4 w5 w6 w7 w8 w9 w10 w11 w12 b1 b2 b3 bS bD b4 b5 b6 hV9 hE9 hG9 hL9 h99 m7; lia)) (by (clear hb ht hta hlt h126 hf h1 h3 h4 hTS hT hV hE hpl hF e18 e126 v61 n7 eM m1 xr x61 x126 eN qr q178 q185 q173 k70 k71 q151 q6 x5 x18 hT9 nm w1 w2 w3 w4 w5 w6 w7 w8 w9 w10 w11 w12 b1 b2 b3 bS bD b4 b5 b6 hV9 hE9 hG9 hL9 h99 m7; lia))) (by rw [m7]; (clear hb ht hta hlt h126 h1 h3 h4 hTS hT hV hE hpl hF e18 e126 v61 eM m1 xr x61 x126 eN qr q178 q185 q173 k70 k71 q151 q6 x5 x18 hT9 nm w1 w2 w3 w4 w5 w6 w7 w8 w9 w10 w11 w12 b1 b2 b3 bS bD b4 b5 b6 hV9 hE9 hG9 hL9 h99; lia)) (by rw [x5]) (fun i _ => by rw [q6])
  have dcl : ∀ u, DCL M9 (M 1 18) u ↔ DCL M (M 1 18) u ∨ u = t := fun u => by
    unfold DCL
    rw [x126, xr 124 (by decide) (by decide) (by decide), xr 60 (by decide) (by decide) (by decide)]
    constructor
    · rintro (h | ⟨k, hk, e⟩)
      · exact .inl (.inl h)
      · rw [x61] at e
        by_cases c : k = M 126 (M 1 18)
        · rw [if_pos (by (clear hb ht hta hlt h126 hf h1 h3 h4 hTS hT hV hE hpl hF e18 e126 v61 n7 eM m1 xr x61 eN qr q178 q185 q173 k70 k71 q151 q6 x5 x18 hT9 nm w1 w2 w3 w4 w5 w6 w7 w8 w9 w11 w12 b1 b2 b3 bS bD b4 b5 b6 hV9 hE9 hG9 hL9 h99 m7 hTS9 hk e; lia))] at e; exact .inr e.symm
        · rw [if_neg (by (clear hb ht hta hlt h126 hf h1 h3 h4 hTS hT hV hE hpl hF e18 e126 v61 n7 eM m1 xr x61 eN qr q178 q185 q173 k70 k71 q151 q6 x5 x18 hT9 nm w1 w2 w3 w4 w5 w6 w7 w8 w9 w11 w12 b1 b2 b3 bS bD b4 b5 b6 hV9 hE9 hG9 hL9 h99 m7 hTS9 hk e; lia))] at e; exact .inl (.inr ⟨k, ⟨hk.1, by (clear hb ht hta hlt h126 hf h1 h3 h4 hTS hT hV hE hpl hF e18 e126 v61 n7 eM m1 xr x61 eN qr q178 q185 q173 k70 k71 q151 q6 x5 x18 hT9 nm w1 w2 w3 w4 w5 w6 w7 w8 w9 w11 w12 b1 b2 b3 bS bD b4 b5 b6 hV9 hE9 hG9 hL9 h99 m7 hTS9 e; omega)⟩, e⟩)
    · rintro ((h | ⟨k, hk, e⟩) | e)
      · exact .inl h
      · exact .inr ⟨k, ⟨hk.1, by (clear hb ht hta hlt h126 hf h1 h3 h4 hTS hT hV hE hpl hF e18 e126 v61 n7 eM m1 xr x61 eN qr q178 q185 q173 k70 k71 q151 q6 x5 x18 hT9 nm w1 w2 w3 w4 w5 w6 w7 w8 w9 w11 w12 b1 b2 b3 bS bD b4 b5 b6 hV9 hE9 hG9 hL9 h99 m7 hTS9 e; omega)⟩, by rw [x61, if_neg (by (clear hb ht hta hlt h126 hf h1 h3 h4 hTS hT hV hE hpl hF e18 e126 v61 n7 eM m1 xr x61 eN qr q178 q185 q173 k70 k71 q151 q6 x5 x18 hT9 nm w1 w2 w3 w4 w5 w6 w7 w8 w9 w11 w12 b1 b2 b3 bS bD b4 b5 b6 hV9 hE9 hG9 hL9 h99 m7 hTS9 e; lia))]; exact e⟩
      · exact .inr ⟨M 126 (M 1 18), ⟨w8, by omega⟩, by rw [x61, if_pos rfl]; exact e.symm⟩
  refine ⟨⟨hTS9, by rw [x5, q6]; exact h1.2.1, fun hb1 => by omega⟩, ?_, fun _ u hu => ?_, by rw [x18]; exact HDG_d h4 hV dcl k71 q151 hlt⟩
  · rw [x18]
    refine ⟨?_, ?_, fun k k0 k1 => ?_, fun u v hu hv he huv => ?_⟩
    · rw [qr 172 (by decide) (by decide) (by decide), xr 125 (by decide) (by decide) (by decide)]; exact ⟨b1, b2, b3, by unfold SCC at bS ⊢; rw [xr 124 (by decide) (by decide) (by decide), xr 132 (by decide) (by decide) (by decide), xr 131 (by decide) (by decide) (by decide), xr 125 (by decide) (by decide) (by decide)]; exact bS, by unfold SCD at bD ⊢; rw [xr 124 (by decide) (by decide) (by decide), xr 132 (by decide) (by decide) (by decide), xr 131 (by decide) (by decide) (by decide)]; exact bD⟩
    · rw [xr 124 (by decide) (by decide) (by decide), xr 132 (by decide) (by decide) (by decide), xr 131 (by decide) (by decide) (by decide), xr 125 (by decide) (by decide) (by decide), xr 60 (by decide) (by decide) (by decide), qr 181 (by decide) (by decide) (by decide), k71]; exact b4
    · rw [x126] at k1
      rw [q185, x61, k71]
      by_cases c : k = M 126 (M 1 18)
      · rw [if_pos (by (clear hb ht hta hlt h126 hf h1 h3 h4 hTS hT hV hE hpl hF e18 e126 v61 n7 eM m1 xr x61 eN qr q178 q185 q173 k70 k71 q151 q6 x5 x18 hT9 nm w1 w2 w3 w4 w5 w6 w7 w8 w9 w11 w12 b1 b2 b3 bS bD b4 b5 b6 hV9 hE9 hG9 hL9 h99 m7 hTS9 dcl k0 k1; lia)), if_pos (by omega)]; exact (hT t ht.1).2.1.symm
      · rw [if_neg (by (clear hb ht hta hlt h126 hf h1 h3 h4 hTS hT hV hE hpl hF e18 e126 v61 n7 eM m1 xr x61 eN qr q178 q185 q173 k70 k71 q151 q6 x5 x18 hT9 nm w1 w2 w3 w4 w5 w6 w7 w8 w9 w11 w12 b1 b2 b3 bS bD b4 b5 b6 hV9 hE9 hG9 hL9 h99 m7 hTS9 dcl k0 k1; lia)), if_neg (by omega)]; exact b5 k k0 (by (clear hb ht hta hlt h126 hf h1 h3 h4 hTS hT hV hE hpl hF e18 e126 v61 n7 eM m1 xr x61 eN qr q178 q185 q173 k70 k71 q151 q6 x5 x18 hT9 nm w1 w2 w3 w4 w5 w6 w7 w8 w9 w11 w12 b1 b2 b3 bS bD b4 b5 b6 hV9 hE9 hG9 hL9 h99 m7 hTS9 dcl k0; lia))
    · rw [q151] at he
      rw [k71]
      rw [dcl] at hu hv
      rcases hv with hv | hv
      · rcases hu with hu | hu
        · exact Int.le_trans hF (b6 u v hu hv he huv)
        · rw [hu] at huv; have := hlt v hv; (clear hb ht hta hlt h126 hf h1 h3 h4 hTS hT hV hE hpl hF e18 e126 v61 n7 eM m1 xr x61 x126 eN qr q178 q185 q173 k70 k71 q151 q6 x5 x18 hT9 nm w1 w2 w3 w4 w5 w6 w7 w8 w9 w10 w11 w12 b1 b2 b3 bS bD b4 b5 b6 hV9 hE9 hG9 hL9 h99 m7 hTS9 dcl he hv; omega)
      · rcases hu with hu | hu
        · rw [hv] at he ⊢
          unfold Fd_
          rw [if_neg (DCL_told hV hu he)]
          exact Int.min_le_right _ _
        · (clear hb ht hta hlt h126 hf h1 h3 h4 hTS hT hV hE hpl hF e18 e126 v61 n7 eM m1 xr x61 x126 eN qr q178 q185 q173 k70 k71 q151 q6 x5 x18 hT9 nm w1 w2 w3 w4 w5 w6 w7 w8 w9 w10 w11 w12 b1 b2 b3 bS bD b4 b5 b6 hV9 hE9 hG9 hL9 h99 m7 hTS9 dcl he; lia)
  · rw [x18, dcl] at hu
    rcases hu with hu | hu
    · exact h3 hb u hu
    · (clear hb ht hlt h126 hf h1 h3 h4 hTS hT hV hE hpl hF e18 e126 v61 n7 eM m1 xr x61 x126 eN qr q178 q185 q173 k70 k71 q151 q6 x5 x18 hT9 nm w1 w2 w3 w4 w5 w6 w7 w8 w9 w10 w11 w12 b1 b2 b3 bS bD b4 b5 b6 hV9 hE9 hG9 hL9 h99 m7 hTS9 dcl; lia)
theorem PHF_tm [Inhabited gh_] (hb : b = 0) (hV : N 6 61 = M 1 18) (h126 : 0 ≤ M 126 (M 1 18) ∧ M 126 (M 1 18) < 3) : PHFx (fun v => b = 0 ∧ v = t) b F (Fd_ F M N t) M N (tX_ (nd_ M N t) t) (tQ_ N (M 126 (M 1 18)) t) := by
  have e18 : nd_ M N t 1 18 = M 1 18 := nd_1 (by decide) (by decide) (by decide)
  have e126 : nd_ M N t 126 = M 126 := nd_r (by decide)
  have xr : ∀ r : Nat, r ≠ 1 → r ≠ 61 → r ≠ 126 → tX_ (nd_ M N t) t r = M r := fun r h1 h2 h3 => by rw [tX_r h2 h3, nd_r h1]
  have qr : ∀ r : Nat, r ≠ 178 → r ≠ 185 → r ≠ 173 → tQ_ N (M 126 (M 1 18)) t r = N r := fun r h h' h'' => tQ_r h h' h''
  refine ⟨⟨fun r h1 h2 => xr r h1 (fun e => h2 (by rw [e]; decide)) (fun e => h2 (by rw [e]; decide)), fun i hi => ?_, fun r h1 h2 => qr r (fun e => h2 (by rw [e]; decide)) (fun e => h2 (by rw [e]; decide)) (fun e => h2 (by rw [e]; decide)), fun i _ => by rw [qr 6 (by decide) (by decide) (by decide)]⟩, ⟨fun i hi => ?_, fun i hi => ?_, fun i hi => ?_⟩, fun hb1 => by (clear hV h126 e18 e126 xr qr; lia), Fd_le, fun hb1 => by omega, fun u hu => ?_, by rw [tX_r (by decide) (by decide), nd_1 (by decide) (by decide) (by decide)]; exact Int.le_refl _, fun _ u hu => ?_, fun hb1 => by omega⟩
  · rw [tX_r (by decide) (by decide), nd_1 (nm_i hi (by decide)) (nm_i hi (by decide)) (nm_i hi (by decide))]
  · rw [xr 124 (by decide) (by decide) (by decide), xr 125 (by decide) (by decide) (by decide), qr 170 (by decide) (by decide) (by decide), qr 171 (by decide) (by decide) (by decide), qr 172 (by decide) (by decide) (by decide)]
    refine ⟨⟨rfl, rfl, ?_⟩, rfl, rfl, rfl, ?_⟩
    · unfold tX_; rw [e18, up_of2 hi, up_ne (by decide), nd_r (by decide)]
    · unfold tQ_; rw [hV, up_of2 hi, up_ne (by decide), up_ne (by decide)]
  · rw [xr 60 (by decide) (by decide) (by decide), xr 130 (by decide) (by decide) (by decide), xr 131 (by decide) (by decide) (by decide), xr 132 (by decide) (by decide) (by decide), qr 177 (by decide) (by decide) (by decide), qr 181 (by decide) (by decide) (by decide), qr 182 (by decide) (by decide) (by decide), qr 183 (by decide) (by decide) (by decide), qr 184 (by decide) (by decide) (by decide)]
    exact ⟨⟨rfl, rfl, rfl, rfl⟩, rfl, rfl, rfl, rfl, rfl⟩
  · refine ⟨?_, ?_, ?_⟩
    · unfold tX_; rw [e18, e126, up_ne (by decide), up_of2 (by (clear hb hV e126 xr qr; omega)), nd_r (by decide)]
    · unfold tQ_; rw [hV, up_ne (by decide), up_ne (by decide), up_of2 (by omega)]
    · unfold tQ_; rw [hV, up_ne (by decide), up_of2 (by omega), up_ne (by decide)]
  · have x126 : tX_ (nd_ M N t) t 126 (M 1 18) = M 126 (M 1 18) + 1 := by unfold tX_; rw [e18, e126, up_at]
    unfold DCL at hu ⊢
    rw [x126, xr 124 (by decide) (by decide) (by decide), xr 60 (by decide) (by decide) (by decide)]
    rcases hu with h | ⟨k, hk, e⟩
    · exact .inl h
    · refine .inr ⟨k, ⟨hk.1, by (clear hb hV h126 e18 e126 xr qr e; omega)⟩, ?_⟩
      unfold tX_; rw [e18, e126, up_ne (by decide), up_of2 (by (clear hb hV h126 e18 e126 xr qr e; lia)), nd_r (by decide)]; exact e
  · have x126 : tX_ (nd_ M N t) t 126 (M 1 18) = M 126 (M 1 18) + 1 := by unfold tX_; rw [e18, e126, up_at]
    unfold DCL at hu ⊢
    rw [x126, xr 124 (by decide) (by decide) (by decide), xr 60 (by decide) (by decide) (by decide)] at hu
    rcases hu with h | ⟨k, hk, e⟩
    · exact .inl (.inl h)
    · by_cases c : k = M 126 (M 1 18)
      · unfold tX_ at e; rw [c, e18, e126, up_ne (by decide), up_at] at e; exact .inr (.inr ⟨hb, e.symm⟩)
      · refine .inl (.inr ⟨k, ⟨hk.1, by (clear hb hV h126 e18 e126 xr qr e; omega)⟩, ?_⟩)
        unfold tX_ at e; rw [e18, e126, up_ne (by decide), up_of2 (by (clear hb hV h126 e18 e126 xr qr hk e; lia)), nd_r (by decide)] at e; exact e
theorem Qn_kk [Inhabited gh_] {p : Int} (h : vk_ (N 6 13) (N 6 14)) (hk : kk = 0 ∨ (3 ≤ kk ∧ kk ≤ 6)) (hp : 0 ≤ p ∧ p ≤ 5000) : kk_ (Qn_ N b kk p 6 13) (Qn_ N b kk p 6 14) ≤ kk_ (N 6 13) (N 6 14) := by
  unfold Qn_
  split
  · exact Int.le_refl _
  · exact (nt_le h (by (clear h hp; lia)) hp).1
/-- a note of both -/
theorem STA_n [Inhabited gh_] (h : STA b F M N a ee) (hk : kk = 0 ∨ (3 ≤ kk ∧ kk ≤ 6)) (ht : gd_ M tk) (hf : M 1 7 + 1 + 8 * (1201 - a) ≤ 1000000000 - (gg_ : Int)) : STA b F (Xn_ M b kk tk) (Qn_ N b kk (M 71 tk)) a ee ∧ (M 1 7 ≤ Xn_ M b kk tk 1 7 ∧ Xn_ M b kk tk 1 7 ≤ M 1 7 + 1) ∧ (b = 1 → Qn_ N b kk (M 71 tk) 6 13 = 0 → kk = 0 ∧ N 6 13 = 0) := by
  obtain ⟨h1, ⟨s1, s2, s3⟩, h4⟩ := h
  have hp := (h1.1.1 tk ht).2.2.2.1
  have m := ER_m (TS_E h1) hk (tk := tk) (by (clear hk ht hf h1 h4 s1 s2 s3; omega)) (by omega)
  have t5 := h1.1.2.2.2.2.1
  have n2 := h1.2.2.2.2.2.2.2.2.2
  have q : ∀ i : Int, i ≠ 13 → i ≠ 14 → Qn_ N b kk (M 71 tk) 6 i = N 6 i := fun i h1 h2 => Qn_6 h1 h2
  have e5 : Xn_ M b kk tk 5 = M 5 := Xn_r (by decide)
  refine ⟨⟨TS_w h1 Xn_XF (QG_QF (QN_QF QN_Qn)) m.1 (Int.le_refl _) (by rw [q 104 (by decide) (by decide)]; exact t5) (by rw [e5]; exact n2) (by (clear hk ht h1 h4 s1 s2 s3 hp t5 n2 q e5; omega)), ⟨by rw [e5]; exact s1, by rw [q 62 (by decide) (by decide)]; exact s2, by rw [q 63 (by decide) (by decide)]; exact s3⟩, fun hb => ?_⟩, m.2⟩
  obtain ⟨⟨xs, hs⟩, hl⟩ := h4 hb
  refine ⟨⟨xs, SRW_a hs (XF_XA Xn_XF) (QF_QA (QN_QF QN_Qn))⟩, fun h => ?_⟩
  rw [q 62 (by decide) (by decide), q 63 (by decide) (by decide), Qn_r (by decide)]
  rw [q 62 (by decide) (by decide)] at h; exact hl h
theorem HDR_n [Inhabited gh_] (h : HDR b F M N a) (hk : kk = 0 ∨ (3 ≤ kk ∧ kk ≤ 6)) (ht : gd_ M tk) (hf : M 1 7 + 1 + 8 * (1201 - a) ≤ 1000000000 - (gg_ : Int)) : HDR b F (Xn_ M b kk tk) (Qn_ N b kk (M 71 tk)) a ∧ PHF b F F M N (Xn_ M b kk tk) (Qn_ N b kk (M 71 tk)) ∧ (M 1 7 ≤ Xn_ M b kk tk 1 7 ∧ Xn_ M b kk tk 1 7 ≤ M 1 7 + 1) := by
  obtain ⟨h1, h2, h3, h4⟩ := h
  obtain ⟨s1, s2, s3⟩ := STA_n h1 hk ht hf
  have e18 : Xn_ M b kk tk 1 18 = M 1 18 := Xn_1 (by decide) (by decide) (by decide)
  have xr : ∀ r : Nat, r ≠ 1 → Xn_ M b kk tk r = M r := fun r h => Xn_r h
  refine ⟨⟨s1, ?_, fun hb u hu => ?_, by rw [e18]; exact HDG_c h4 (fun r hr => xr r (fun c => by rw [c] at hr; revert hr; decide)) (Qn_r (by decide))⟩, PHF_0 xr (fun i hi => Xn_1 (nm_i hi (by decide)) (nm_i hi (by decide)) (nm_i hi (by decide))) (fun r h => Qn_r h) (fun i hi => Qn_6 (nm_i hi (by decide)) (nm_i hi (by decide))) (fun hb e => (s3 hb e).2) (fun _ => Qn_kk ((TS_E h1.1).2.2.2.2.2.2.2.2.2.2.1.2.1) hk (by have := (h1.1.1.1 tk ht).2.2.2.1; (clear hk ht hf h1 h2 h3 h4 s1 s2 s3 e18 xr; omega))), s2⟩
  · rw [e18]
    exact TBL_c h2 (fun r hr => xr r (fun c => by rw [c] at hr; revert hr; decide)) (fun r hr => Qn_r (fun c => by rw [c] at hr; revert hr; decide))
  · rw [e18, DCL_c (xr _ (by decide)) (xr _ (by decide)) (xr _ (by decide)) (xr _ (by decide))] at hu
    exact h3 hb u hu
end TM2
end T237_tm
section T238_tm
/-! TIMER (X 130 | Q 259) -/
def tmS (κ : Int → Int) (dm : Int → Bool) (a : Int) : Option Int := (gS a).bind fun a1 => (tS κ 100 a1).bind fun a2 => if dm a1 then tS κ 259 a2 else none
def qTL (dq : Nat) (m : Int) (N : mm_) (G : mm_ → Prop) (Qt : qt_) : Prop := Tr_ wd0 pg0 (dq + 17) 228 [.inr (.inr 6), .inl 4] N (ri_ fun v4 M4 => if v4 = 0 then False else Tr_ wd0 pg0 (dq + 17) 259 [.inr (.inr 6), .inl m] M4 (rv_ G) Qt) Qt
section TMs
variable {dq : Nat} {b F : Int} {M N : mm_} {a m : Int} {Kv : mm_ → Prop} {Qt : qt_}
theorem q_259z [Inhabited gh_] {d : Nat} {G : mm_ → Prop} (hs : sp_ N) (h : G N) : Tr_ wd0 pg0 (d + 17) 259 [.inr (.inr 6), .inl m] N (rv_ G) Qt := t_259 fun V hV hW => b_259_0 (Tr_mono _) hV hW _ _ (q_233s hs (q_227s hs (by rw [if_neg (by decide)]; exact rv_i h)))
/-- from the semicolon on -/
theorem y_tm2 [Inhabited gh_] {V : vv_} {F2 : Int} {M2 N2 : mm_} {a2 : Int} (h01 : b = 0 ∨ b = 1) (H2 : HDR b F2 M2 N2 a2) (p2 : PHF b F F2 M N M2 N2) (ha2 : a + 2 ≤ a2) (x70 : M2 70 = M 70) (sy : ∀ dm, DOK b dm M M2 → tmS (M 70) dm a = tS (M 70) 259 a2) (hS : b = 1 → tS (M 70) 259 a2 ≠ none) (cn : b = 0 → M2 126 (M 1 18) = m + 1 ∧ M2 124 (M 1 18) = M 124 (M 1 18) ∧ N2 170 = N 170)
    (q2 : ∀ (G : mm_ → Prop) (Qtq : qt_), Tr_ wd0 pg0 (dq + 16) 244 [.inr (.inr 6), .inl 59] N2 (rv_ fun M1 => rv_ G [] M1) Qtq → qTL dq m N G Qtq)
    (hK : ∀ F' M' N' a', HDR b F' M' N' a' → a + 3 ≤ a' → PHF b F F' M N M' N' → (b = 0 → M' 126 (M 1 18) = m + 1 ∧ M' 124 (M 1 18) = M 124 (M 1 18) ∧ N' 170 = N 170) → (∀ dm, DOK b dm M M' → tmS (M 70) dm a = some a') → (∀ (G : mm_ → Prop) (Qtq : qt_), G N' → qTL dq m N G Qtq) → Kv M')
    (hQ : b = 0 → ∀ Mx', XPb M Mx' → (∀ (G : mm_ → Prop) (Qtq : qt_), (∀ M', SQp Mx' N M' → G M') → qTL dq m N G Qtq) → Qt 8 Mx') :
    Tr_ wd0 pg0 129 121 [.inr (.inr 1), .inl 59] M2 (rv_ fun M7 => rv_ Kv [] M7) Qt := by
  have hE2 := TS_E H2.1.1
  have hT2 := H2.1.1.1.1
  refine y_121 hE2 (by decide) (fun hb => by rw [x70]; exact hS hb) (fun k2 h13 hE3 => ?_) (fun hb k2 h13 => ?_) (fun hb k2 => ?_)
  · have H3 := HDR_go H2 hE3
    have p3 : PHF b F F2 M N (nX_ M2) (nx_ N2) := PHF_tr p2 (PHF_go H2 (by rw [k2]; decide))
    refine rv_i (hK F2 (nX_ M2) (nx_ N2) (a2 + 1) H3 (by omega) p3 (fun hb => by rw [nX_ne (by decide), nX_ne (by decide), nx_ne (by decide)]; exact cn hb) (fun dm hd => ?_) (fun G Qtq hg => q2 G Qtq (j_244t hT2 hE2 (by decide) k2 h13 (rv_i hg))))
    rw [sy dm (DOK_s p2 (PHF_go H2 (by rw [k2]; decide)) hd).1, tS_e (by rw [← x70]; exact k2) h13]
  · have hsp := SQ_bf hE2 hb (k := 2) (by decide) QA_rf
    exact hQ hb _ (XPb_tr (PHF_X p2) XPb_fl) (fun G Qtq hg => q2 G Qtq (j_244r hT2 hE2 hb (by decide) k2 h13 (rv_i (hg _ (SQp_tr (PHF_Q p2) (SQ_P hsp))))))
  · have hsp := SQ_bf hE2 hb (k := 1) (by decide) QA_rf
    exact hQ hb _ (XPb_tr (PHF_X p2) XPb_fl) (fun G Qtq hg => q2 G Qtq (j_244w hT2 hE2 hb (by decide) k2 (rv_i (hg _ (SQp_tr (PHF_Q p2) (SQ_P hsp))))))
theorem y_130t [Inhabited gh_] (h : HDR b F M N a) (hk : M 70 a = 4) (hm : b = 0 → M 126 (M 1 18) = m) (hS : b = 1 → tmS (M 70) (DMT M) a ≠ none)
    (hK : ∀ F' M' N' a', HDR b F' M' N' a' → a + 3 ≤ a' → PHF b F F' M N M' N' → (b = 0 → M' 126 (M 1 18) = m + 1 ∧ M' 124 (M 1 18) = M 124 (M 1 18) ∧ N' 170 = N 170) → (∀ dm, DOK b dm M M' → tmS (M 70) dm a = some a') → (∀ (G : mm_ → Prop) (Qtq : qt_), G N' → qTL dq m N G Qtq) → Kv M')
    (hQ : b = 0 → ∀ Mx', XPb M Mx' → (∀ (G : mm_ → Prop) (Qtq : qt_), (∀ M', SQp Mx' N M' → G M') → qTL dq m N G Qtq) → Qt 8 Mx') :
    Tr_ wd0 pg0 130 130 [.inr (.inr 1)] M (rv_ Kv) Qt := by
  have hE := TS_E h.1.1
  have hT := h.1.1.1.1
  have ha := ER_a hE
  have h01 := bl01 hE
  have hV0 := h.1.1.1.2.1
  have fl := h.1.1.2.2.2.2.2.1
  refine t_130 fun V hV hW => b_130_0 (Tr_mono _) hV hW _ ?_
  refine y_103 hE (fun _ => ?_) (fun c => absurd hk c)
  refine y_105 hE (by omega) (fun hb => bind_n (hS hb)) (fun h12 hE1 => ?_) (fun hb h12 => ?_)
  rotate_left
  · have hsp := SQ_bf hE hb (k := 2) (by decide) QA_rf
    exact hQ hb _ XPb_fl (fun G Qtq hg => j_228r hT hE hb (by decide) hk h12 (by rw [if_neg (by decide)]; exact q_259z hsp.1 (hg _ (SQ_P hsp))))
  have H1 := HDR_go h hE1
  have hT1 := H1.1.1.1.1
  have x70 : nX_ M 70 = M 70 := nX_ne (by decide)
  have eS : ∀ dm, tmS (M 70) dm a = (tS (M 70) 100 (a + 1)).bind fun a2 => if dm (a + 1) then tS (M 70) 259 a2 else none := fun dm => by unfold tmS; rw [gS_e h12, Option.bind_some]
  have toQ : ∀ {G : mm_ → Prop} {Qtq : qt_}, (∀ V' : vv_, Cl_ wd0 (Tr_ wd0 pg0 (dq + 16)) V' (rv_ G) Qtq m_259 → Wk_ V' → V' 0 [rr 6, ii m, none] [] (nx_ N)) → qTL dq m N G Qtq := fun hq => j_228t hT hE (by decide) hk h12 (by
    rw [if_neg (by decide)]
    exact t_259 fun V' hV' hW' => hq V' hV' hW')
  refine y_107 (d := 125) hE1 (fun hb => by rw [x70]; have := hS hb; rw [eS] at this; exact bind_n this) (fun hk1 h13 hE2 => ?_) (fun hb hk1 h13 => ?_) (fun hb hk1 => ?_)
  rotate_left
  · have hsp := SQ_bf hE1 hb (k := 2) (by decide) QA_rf
    exact hQ hb _ (XPb_tr XPb_nX XPb_fl) (fun G Qtq hg => toQ fun V' hV' hW' => b_259_0 (Tr_mono _) hV' hW' _ _ (j_233r hT1 hE1 hb hk1 h13 (q_227s hsp.1 (by rw [if_neg (by decide)]; exact rv_i (hg _ (SQp_tr QPb_nx (SQ_P hsp)))))))
  · have hsp := SQ_bf hE1 hb (k := 1) (by decide) QA_rf
    exact hQ hb _ (XPb_tr XPb_nX XPb_fl) (fun G Qtq hg => toQ fun V' hV' hW' => b_259_0 (Tr_mono _) hV' hW' _ _ (j_233w hT1 hE1 hb hk1 (q_227s hsp.1 (by rw [if_neg (by decide)]; exact rv_i (hg _ (SQp_tr QPb_nx (SQ_P hsp)))))))
  rw [if_neg (by decide)]
  have hk1' : M 70 (a + 1) = 100 := by rw [← x70]; exact hk1
  have H2 := HDR_go H1 hE2
  have p2 : PHFx (fun v => v = a + 1) b F F M N (nX_ (nX_ M)) (nx_ (nx_ N)) := PHFx_tr (PHFx_w (PHF_go h (by rw [hk]; decide))) (PHFx_go H1)
  have f2r : ∀ r : Nat, r ≠ 1 → nX_ (nX_ M) r = M r := fun r hr => by rw [nX_ne hr, nX_ne hr]
  have f2q : ∀ r : Nat, r ≠ 6 → nx_ (nx_ N) r = N r := fun r hr => by rw [nx_ne hr, nx_ne hr]
  have f21 : ∀ i : Int, i ≠ 3 → nX_ (nX_ M) 1 i = M 1 i := fun i hi => by rw [nX_1 hi, nX_1 hi]
  have eS2 : ∀ dm, tmS (M 70) dm a = if dm (a + 1) then tS (M 70) 259 (a + 1 + 1) else none := fun dm => by rw [eS, tS_e hk1' h13, Option.bind_some]
  have dm1 : b = 1 → DMT M (a + 1) = true := fun hb => by
    have h9 := hS hb
    rw [eS2] at h9
    by_cases c : DMT M (a + 1) = true
    · exact c
    · rw [if_neg c] at h9; exact absurd rfl h9
  have q0 : ∀ {G : mm_ → Prop} {Qtq : qt_}, (∀ V' : vv_, Cl_ wd0 (Tr_ wd0 pg0 (dq + 16)) V' (rv_ G) Qtq m_259 → Wk_ V' → (bl_ (nx_ (nx_ N) 6 16) → (if nx_ (nx_ N) 6 16 = 0 then
     (if m = 3 then
      (0 ≤ a + 1 ∧ a + 1 < 1202) ∧
       Tr_ wd0 pg0 (dq + 16) 231 [.inr (.inr 6), .inl 2, .inl (nx_ (nx_ N) 150 (a + 1))] (nx_ (nx_ N)) (rv_ fun M3 =>
       rv_ G [] M3) Qtq
     else
      V' 37 [rr 6, ii m, ii (a + 1)] [] (nx_ (nx_ N)))
    else
     V' 37 [rr 6, ii m, ii (a + 1)] [] (nx_ (nx_ N))))) → qTL dq m N G Qtq := fun hq => toQ fun V' hV' hW' => b_259_0 (Tr_mono _) hV' hW' _ _ (j_233t hT1 hE1 hk1 h13 (q_227g (ER_goq hE2) (by rw [if_pos rfl]; exact hq V' hV' hW')))
  have m8 : nX_ (nX_ M) 1 8 = b := hE2.2.2.2.2.2.2.1
  have n16 : nx_ (nx_ N) 6 16 = b := hE2.2.2.2.2.2.2.2.1
  have nm2 : nm9_ (nX_ (nX_ M)) (a + 1) := ⟨gd_c (nX_ne (by decide)) hE1.1, by rw [f2r 70 (by decide)]; exact hk1'⟩
  have d2 : ∀ u, DCL (nX_ (nX_ M)) (M 1 18) u ↔ DCL M (M 1 18) u := fun u => DCL_c (f2r _ (by decide)) (f2r _ (by decide)) (f2r _ (by decide)) (f2r _ (by decide))
  have hV2 := H2.1.1.1.2.1
  have hT2 := H2.1.1.1.1
  have m17 : nX_ (nX_ M) 1 7 = M 1 7 := f21 7 (by decide)
  have e18 : nX_ (nX_ M) 1 18 = M 1 18 := f21 18 (by decide)
  intro _
  rcases h01 with hb | hb
  · rw [if_pos (by (clear h hk hm hS hK hQ hE hT ha hV0 fl hV hW h12 hE1 H1 hT1 x70 eS toQ hk1 h13 hE2 hk1' H2 p2 f2r f2q f21 eS2 dm1 q0 nm2 d2 hV2 hT2 m17 e18; lia))]
    refine ⟨hV2.1, by have := hV2.2.2; (clear h hk hm hS hK hQ hE hT ha hV0 fl hV hW h12 hE1 H1 hT1 x70 eS toQ hk1 h13 hE2 hk1' H2 p2 f2r f2q f21 eS2 dm1 q0 m8 n16 nm2 d2 hV2 hT2 m17 hb; omega), ?_⟩
    by_cases c3 : nX_ (nX_ M) 126 (nX_ (nX_ M) 1 18) = 3
    · rw [if_pos c3]
      refine x_110 (by omega) (by omega) (fun e => absurd e (by decide)) (fun _ => ?_)
      have m3 : m = 3 := by rw [e18, f2r 126 (by decide), hm hb] at c3; exact c3
      have e150 : nx_ (nx_ N) 150 (a + 1) = nX_ (nX_ M) 71 (a + 1) := by rw [f2q 150 (by decide), f2r 71 (by decide)]; have := (hT1 (a + 1) hE1.1).2.1; rw [nX_ne (by decide), nx_ne (by decide)] at this; exact this.symm
      have sp2 : sp_ (bf_ (nx_ (nx_ N)) 2 (nX_ (nX_ M) 71 (a + 1))) := bf_sp (n16.trans hb) (by decide)
      refine hQ hb _ (XPb_tr (PHF_X p2) XPb_fl) (fun G Qtq hg => q0 fun V' hV' hW' => ?_)
      intro _
      rw [if_pos (by (clear h hk hm hS hK hQ hE hT ha hV0 fl hV hW h12 hE1 H1 hT1 x70 eS toQ hk1 h13 hE2 hk1' H2 p2 f2r f2q f21 eS2 dm1 q0 m8 nm2 d2 hV2 hT2 m17 e18 c3 m3 e150 sp2 hg hV' hW'; lia)), if_pos m3, e150]
      refine ⟨by omega, q_231o (hE2.2.2.2.2.2.2.2.2.2.1 hb) (rv_i (hg _ ⟨sp2, ?_, ?_, ?_, QPb_tr (PHF_Q p2) (QF_P bf_QF)⟩))⟩
      · unfold in9_; rw [bf_6 (by decide) (by decide), hE2.2.2.1]; omega
      · unfold bf_ flX_; rw [up_off (by decide), up_at, up_off (by decide), up_at]
      · refine ⟨?_, fl_b7 (by assumption)⟩; unfold bf_ flX_; rw [up_at, up_at]
    · rw [if_neg c3]
      refine x_110 (by (clear h hk hm hS hK hQ hE hT hV0 fl hV hW hE1 H1 hT1 x70 eS toQ hk1 hE2 hk1' H2 p2 f2r f2q f21 eS2 dm1 q0 m8 n16 nm2 d2 hV2 hT2 m17 e18 hb c3; lia)) (by omega) (fun _ => ?_) (fun e => absurd rfl e)
      have lt3 : nX_ (nX_ M) 126 (nX_ (nX_ M) 1 18) < 3 := by have := hV2.2.2.2.2.2.1; (clear h hk hm hS hK hQ hE hT ha hV0 fl hV hW h12 hE1 H1 hT1 x70 eS toQ hk1 h13 hE2 hk1' H2 p2 f2r f2q f21 eS2 dm1 q0 m8 n16 nm2 d2 hV2 hT2 m17 e18 hb; lia)
      have m3 : m ≠ 3 := by rw [e18, f2r 126 (by decide), hm hb] at c3; exact c3
      have em : nX_ (nX_ M) 126 (nX_ (nX_ M) 1 18) = m := by rw [e18, f2r 126 (by decide)]; exact hm hb
      have H3 := HDR_t (t := a + 1) H2 hb nm2 (by omega) (fun u hu => by rw [e18, d2] at hu; have := h.2.2.1 hb u hu; omega) lt3 (by rw [m17]; (clear h hk hm hS hK hQ hE hT ha hV0 hV hW h12 hE1 H1 hT1 x70 eS toQ hk1 h13 hE2 hk1' H2 p2 f2r f2q f21 eS2 dm1 q0 m8 n16 nm2 d2 hV2 hT2 e18 hb c3 lt3 m3 em; lia))
      have p3 := PHF_tm (b := b) (F := F) (t := a + 1) hb hV2.2.1 ⟨by have := hV2.2.2.2.2.2.1; (clear h hk hm hS hK hQ hE hT ha hV0 fl hV hW h12 hE1 H1 hT1 x70 eS toQ hk1 h13 hE2 hk1' H2 p2 f2r f2q f21 eS2 dm1 q0 m8 n16 nm2 d2 hV2 hT2 m17 e18 hb c3 m3 H3; omega), lt3⟩
      have x126 : tX_ (nd_ (nX_ (nX_ M)) (nx_ (nx_ N)) (a + 1)) (a + 1) 126 (M 1 18) = m + 1 := by
        unfold tX_; rw [nd_1 (i := 18) (by decide) (by decide) (by decide), nd_r (r := 126) (by decide), em, e18, up_at]
      have x124 : tX_ (nd_ (nX_ (nX_ M)) (nx_ (nx_ N)) (a + 1)) (a + 1) 124 = M 124 := by rw [tX_r (by decide) (by decide), nd_r (by decide), f2r 124 (by decide)]
      have xx70 : tX_ (nd_ (nX_ (nX_ M)) (nx_ (nx_ N)) (a + 1)) (a + 1) 70 = M 70 := by rw [tX_r (by decide) (by decide), nd_r (by decide), f2r 70 (by decide)]
      have xdc : DCL (tX_ (nd_ (nX_ (nX_ M)) (nx_ (nx_ N)) (a + 1)) (a + 1)) (M 1 18) (a + 1) := by
        refine .inr ⟨m, by rw [x126]; have := hV2.2.2.2.2.2.1; (clear h hk hm hS hK hQ hE hT ha hV0 fl hV hW h12 hE1 H1 hT1 x70 eS toQ hk1 h13 hE2 hk1' H2 p2 f2r f2q f21 eS2 dm1 q0 m8 n16 nm2 d2 hV2 hT2 m17 e18 hb c3 m3 H3 p3 x124 xx70; lia), ?_⟩
        unfold tX_; rw [nd_1 (i := 18) (by decide) (by decide) (by decide), nd_r (r := 126) (by decide), em, e18, up_ne (by decide), up_at]
      have xq170 : tQ_ (nx_ (nx_ N)) (nX_ (nX_ M) 126 (nX_ (nX_ M) 1 18)) (a + 1) 170 = N 170 := by rw [tQ_r (by decide) (by decide) (by decide), f2q 170 (by decide)]
      have xe18 : tX_ (nd_ (nX_ (nX_ M)) (nx_ (nx_ N)) (a + 1)) (a + 1) 1 18 = M 1 18 := by rw [tX_r (by decide) (by decide), nd_1 (by decide) (by decide) (by decide), e18]
      have fin := y_tm2 (dq := dq) (Kv := Kv) (Qt := Qt) (V := V) (m := m) (.inl hb) H3 (PHFx_on (PHFx_tr p2 (PHFx_m p3 fun v hv => hv.2)) (fun _ v hv => by rw [hv, hE.2.1]; omega) (fun hb1 => by omega)) (by omega) xx70 (fun dm hd => by rw [eS2, if_pos (hd.1 hb _ (by rw [xe18]; exact xdc))]) (fun hb1 => by omega) (fun _ => ⟨x126, by rw [x124], xq170⟩) (fun G Qtq hq => q0 fun V' hV' hW' => by
        intro _
        rw [if_pos (by omega), if_neg m3]
        refine b_259_37 (Tr_mono _) hV' hW' _ _ _ ?_
        intro _
        have v61 := hV2.2.1
        have v18 := hV2.2.2
        have w73 := hV2.2.2.2.2.2.1
        rw [if_pos (by omega)]
        have w1 : w32 (w32 (3 * nx_ (nx_ N) 6 61) + m) = 3 * nx_ (nx_ N) 6 61 + m := by rw [w32_id (x := 3 * nx_ (nx_ N) 6 61) (by (clear h hk hm hS hK hQ hE hT ha hV0 fl hV hW h12 hE1 H1 hT1 x70 eS toQ hk1 h13 hE2 hk1' H2 p2 f2r f2q f21 eS2 dm1 q0 m8 n16 nm2 d2 hV2 hT2 m17 hb c3 lt3 m3 em H3 p3 x126 x124 xx70 xdc xq170 hq hV' hW' w73; omega)) (by (clear h hk hm hS hK hQ hE hT ha hV0 fl hV hW h12 hE1 H1 hT1 x70 eS toQ hk1 h13 hE2 hk1' H2 p2 f2r f2q f21 eS2 dm1 q0 m8 n16 nm2 d2 hV2 hT2 m17 hb c3 lt3 m3 em H3 p3 x126 x124 xx70 xdc xq170 hq hV' hW' w73; omega)), w32_id (by (clear h hk hm hS hK hQ hE hT ha hV0 fl hV hW h12 hE1 H1 hT1 x70 eS toQ hk1 h13 hE2 hk1' H2 p2 f2r f2q f21 eS2 dm1 q0 m8 n16 nm2 d2 hV2 hT2 m17 hb c3 m3 H3 p3 x124 xx70 xdc xq170 hq hV' hW' w73; omega)) (by (clear h hk hm hS hK hQ hE hT ha hV0 fl hV hW h12 hE1 H1 hT1 x70 eS toQ hk1 h13 hE2 hk1' H2 p2 f2r f2q f21 eS2 dm1 q0 m8 n16 nm2 d2 hV2 hT2 m17 hb c3 m3 H3 p3 x124 xx70 xdc xq170 hq hV' hW' w73; omega))]
        have w2 : w32 (nx_ (nx_ N) 173 (nx_ (nx_ N) 6 61) + 1) = nx_ (nx_ N) 173 (nx_ (nx_ N) 6 61) + 1 := w32_id (by rw [v61]; (clear h hk hm hS hK hQ hE hT ha hV0 fl hV hW h12 hE1 H1 hT1 x70 eS toQ hk1 h13 hE2 hk1' H2 p2 f2r f2q f21 eS2 dm1 q0 m8 n16 nm2 d2 hV2 hT2 m17 e18 hb c3 m3 H3 p3 x124 xx70 xdc xq170 xe18 hq hV' hW' v61 w73; omega)) (by rw [v61]; omega)
        rw [w1, w2]
        refine ⟨by omega, by (clear h hk hm hS hK hQ hE hT ha hV0 fl hV hW h12 hE1 H1 hT1 x70 eS toQ hk1 h13 hE2 hk1' H2 p2 f2r f2q f21 eS2 dm1 q0 m8 n16 nm2 d2 hV2 hT2 m17 hb c3 m3 H3 p3 x124 xx70 xdc xq170 hq hV' hW' w73 w2; omega), by omega, by omega, by (clear h hk hm hS hK hQ hE hT ha hV0 fl hV hW h12 hE1 H1 hT1 x70 eS toQ hk1 h13 hE2 hk1' H2 p2 f2r f2q f21 eS2 dm1 q0 m8 n16 nm2 d2 hV2 hT2 m17 hb c3 lt3 m3 em H3 p3 x126 x124 xx70 xdc xq170 hq hV' hW' w73 w1 w2; omega), by omega, ?_⟩
        rw [em] at hq
        exact hq) hK hQ
      have v76 : ∀ M3 : mm_, M3 1 2 = 5 → M3 1 18 = nX_ (nX_ M) 1 18 → M3 126 = nX_ (nX_ M) 126 → Tr_ wd0 pg0 129 121 [.inr (.inr 1), .inl 59] (tX_ M3 (a + 1)) (rv_ fun M7 => rv_ Kv [] M7) Qt → V 76 [rr 1, ii 1, ii (a + 1), none, none, none, none] [] M3 := fun M3 h2 h18 h126 hf => by
        refine b_130_76 (Tr_mono _) hV hW _ _ _ ?_
        have v18 := hV2.2.2
        have w73 := hV2.2.2.2.2.2.1
        unfold tX_ at hf
        rw [h18, h126] at hf ⊢
        rw [w32_id (x := 3 * nX_ (nX_ M) 1 18) (by (clear h hk hm hS hK hQ hE hT ha hV0 fl hV hW h12 hE1 H1 hT1 x70 eS toQ hk1 h13 hE2 hk1' H2 p2 f2r f2q f21 eS2 dm1 q0 m8 n16 nm2 d2 hV2 hT2 m17 hb c3 lt3 m3 em H3 p3 x126 x124 xx70 xdc xq170 fin h2 h126 hf w73; omega)) (by (clear h hk hm hS hK hQ hE hT ha hV0 fl hV hW h12 hE1 H1 hT1 x70 eS toQ hk1 h13 hE2 hk1' H2 p2 f2r f2q f21 eS2 dm1 q0 m8 n16 nm2 d2 hV2 hT2 m17 hb c3 lt3 m3 em H3 p3 x126 x124 xx70 xdc xq170 fin h2 h126 hf w73; omega)), w32_id (x := 3 * nX_ (nX_ M) 1 18 + nX_ (nX_ M) 126 (nX_ (nX_ M) 1 18)) (by (clear h hk hm hS hK hQ hE hT ha hV0 fl hV hW h12 hE1 H1 hT1 x70 eS toQ hk1 h13 hE2 hk1' H2 p2 f2r f2q f21 eS2 dm1 q0 m8 n16 nm2 d2 hV2 hT2 m17 hb c3 m3 H3 p3 x124 xx70 xdc xq170 fin h2 h126 hf w73; omega)) (by (clear h hk hm hS hK hQ hE hT ha hV0 fl hV hW h12 hE1 H1 hT1 x70 eS toQ hk1 h13 hE2 hk1' H2 p2 f2r f2q f21 eS2 dm1 q0 m8 n16 nm2 d2 hV2 hT2 m17 hb c3 m3 H3 p3 x124 xx70 xdc xq170 fin h2 h126 hf w73; omega)), w32_id (x := nX_ (nX_ M) 126 (nX_ (nX_ M) 1 18) + 1) (by (clear h hk hm hS hK hQ hE hT ha hV0 fl hV hW h12 hE1 H1 hT1 x70 eS toQ hk1 h13 hE2 hk1' H2 p2 f2r f2q f21 eS2 dm1 q0 m8 n16 nm2 d2 hV2 hT2 m17 e18 hb c3 m3 H3 p3 x124 xx70 xdc xq170 xe18 fin h2 h18 h126 hf w73; omega)) (by (clear h hk hm hS hK hQ hE hT ha hV0 fl hV hW h12 hE1 H1 hT1 x70 eS toQ hk1 h13 hE2 hk1' H2 p2 f2r f2q f21 eS2 dm1 q0 m8 n16 nm2 d2 hV2 hT2 m17 e18 hb c3 m3 H3 p3 x124 xx70 xdc xq170 xe18 fin h2 h18 h126 hf w73; omega))]
        exact ⟨h2, by (clear h hk hm hS hK hQ hE hT ha hV0 fl hV hW h12 hE1 H1 hT1 x70 eS toQ hk1 h13 hE2 hk1' H2 p2 f2r f2q f21 eS2 dm1 q0 m8 n16 nm2 d2 hV2 hT2 m17 hb c3 lt3 m3 em H3 p3 x126 x124 xx70 xdc xq170 fin h2 h126 hf w73; omega), by (clear h hk hm hS hK hQ hE hT ha hV0 fl hV hW h12 hE1 H1 hT1 x70 eS toQ hk1 h13 hE2 hk1' H2 p2 f2r f2q f21 eS2 dm1 q0 m8 n16 nm2 d2 hV2 hT2 m17 hb c3 m3 H3 p3 x124 xx70 xdc xq170 fin h2 h126 hf w73; omega), h2, by omega, by omega, hf⟩
      have f7 := ER_fl hE2
      unfold nd_ at fin
      refine x_128R hT2 hV2 nm2 ?_
      by_cases c1 : vrr (nx_ (nx_ N)) (nx_ (nx_ N) 151 (a + 1)) = -1
      · rw [if_pos c1]
        refine x_129R hT2 hV2 nm2 ?_
        by_cases c2 : tmr (nx_ (nx_ N)) (nx_ (nx_ N) 151 (a + 1)) = -1
        · rw [if_pos c2]
          rw [if_pos ⟨c1, c2⟩] at fin
          exact v76 _ hV2.1 rfl rfl fin
        · rw [if_neg c2]
          rw [if_neg (fun e => c2 e.2)] at fin
          exact x_116 (by omega) (by (clear h hk hm hS hK hQ hE hT hV0 fl hV hW hE1 H1 hT1 x70 eS toQ hk1 hE2 hk1' H2 p2 f2r f2q f21 eS2 dm1 q0 m8 n16 nm2 d2 hV2 hT2 m17 e18 hb c3 lt3 m3 em H3 p3 x126 x124 xx70 xdc xq170 xe18 fin v76 f7 c1 c2; omega)) f7.1 f7.2 (v76 _ (by rw [nt1_1 (by decide) (by decide) (by decide)]; exact hV2.1) (nt1_1 (by decide) (by decide) (by decide)) (nt1_r (by decide)) fin)
      · rw [if_neg c1]
        rw [if_neg (fun e => c1 e.1)] at fin
        exact x_116 (by omega) (by omega) f7.1 f7.2 (v76 _ (by rw [nt1_1 (by decide) (by decide) (by decide)]; exact hV2.1) (nt1_1 (by decide) (by decide) (by decide)) (nt1_r (by decide)) fin)
  · rw [if_neg (by (clear h hk hm hS hK hQ hE hT ha hV0 fl hV hW h12 hE1 H1 hT1 x70 eS toQ hk1 h13 hE2 hk1' H2 p2 f2r f2q f21 eS2 dm1 q0 nm2 d2 hV2 hT2 m17 e18; lia))]
    have v := hV2.2
    obtain ⟨N', ho, hq255⟩ := q_255 (N := nx_ (nx_ N)) (t := a + 1) (by (clear h hk hm hS hK hQ hE hT ha hV0 fl hV hW h12 hE1 H1 hT1 x70 eS toQ hk1 h13 hE2 hk1' H2 p2 f2r f2q f21 eS2 dm1 q0 m8 n16 nm2 d2 hV2 hT2 m17 hb; omega)) (by rw [v.1]; (clear h hk hm hS hK hQ hE hT ha hV0 fl hV hW h12 hE1 H1 hT1 x70 eS toQ hk1 h13 hE2 hk1' H2 p2 f2r f2q f21 eS2 dm1 q0 m8 n16 nm2 d2 hV2 hT2 m17 e18 hb; omega)) (by rw [v.1]; (clear h hk hm hS hK hQ hE hT ha hV0 fl hV hW h12 hE1 H1 hT1 x70 eS toQ hk1 h13 hE2 hk1' H2 p2 f2r f2q f21 eS2 dm1 q0 m8 n16 nm2 d2 hV2 hT2 m17 e18 hb; omega)) (by omega)
    have H2' := HDR_ow H2 hb nm2 (by rw [e18, d2]; exact DMT_D (dm1 hb)) (OWX_I ho)
    have p2' : PHF b F F M N (nX_ (nX_ M)) N' := PHFx_on (PHFx_tr p2 (PHFx_w (PHF_ow H2 nm2 (OWX_I ho)))) (fun hb0 => by (clear h hk hm hS hK hQ hE hT ha hV0 fl hV hW h12 hE1 H1 hT1 x70 eS toQ hk1 h13 hE2 hk1' H2 p2 f2r f2q f21 eS2 dm1 q0 m8 nm2 d2 hV2 hT2 m17 e18 v ho hq255 H2'; lia)) (fun _ v hv => by rw [hv]; exact ONT_c (ONT_ow H2 nm2 ho) f2r e18)
    have hT2' := H2'.1.1.1.1
    have hV2' := H2'.1.1.1.2.1
    have h92' := H2'.1.1.2.1.1.1
    have n16' : N' 6 16 = b := (TS_E H2'.1.1).2.2.2.2.2.2.2.1
    have e150 : N' 150 (a + 1) = nX_ (nX_ M) 71 (a + 1) := ((hT2' (a + 1) nm2.1).2.1).symm
    have e151 : N' 151 = nx_ (nx_ N) 151 := OWI_r (OWX_I ho) (by decide)
    have main : ∀ kk, (kk = 0 ∨ kk = 3) → (sgl N' (N' 151 (a + 1)) = -1 ↔ kk = 0) → Tr_ wd0 pg0 129 121 [.inr (.inr 1), .inl 59] (Xn_ (nX_ (nX_ M)) b kk (a + 1)) (rv_ fun M7 => rv_ Kv [] M7) Qt := fun kk hkk hsg => by
      obtain ⟨H3, p3, _⟩ := HDR_n (kk := kk) (tk := a + 1) H2' (by (clear h hk hm hS hK hQ hE hT ha hV0 fl hV hW h12 hE1 H1 hT1 x70 eS toQ hk1 h13 hE2 hk1' H2 p2 f2r f2q f21 eS2 dm1 q0 m8 n16 nm2 d2 hV2 hT2 m17 e18 hb v ho hq255 H2' p2' hT2' hV2' h92' n16' e150 e151; lia)) nm2.1 (by rw [m17]; (clear h hk hm hS hK hQ hE hT ha hV0 hV hW h12 hE1 H1 hT1 x70 eS toQ hk1 h13 hE2 hk1' H2 p2 f2r f2q f21 eS2 dm1 q0 m8 n16 nm2 d2 hV2 hT2 e18 hb v ho hq255 H2' p2' hT2' hV2' h92' n16' e150 e151 hkk hsg; lia))
      refine y_tm2 (dq := dq) (V := V) (m := m) (.inr hb) H3 (PHF_tr p2' p3) (by omega) (by rw [Xn_r (by decide)]; exact f2r 70 (by decide)) (fun dm hd => by rw [eS2, if_pos (by rw [hd.2 hb]; exact dm1 hb)]) (fun _ => by have := hS hb; rw [eS2, if_pos (dm1 hb)] at this; exact this) (fun hb0 => by (clear h hk hm hS hK hQ hE hT ha hV0 fl hV hW h12 hE1 H1 hT1 x70 eS toQ hk1 h13 hE2 hk1' H2 p2 f2r f2q f21 eS2 dm1 q0 m8 nm2 d2 hV2 hT2 m17 e18 v ho hq255 H2' p2' hT2' hV2' h92' n16' e150 e151 hkk hsg H3 p3; lia)) (fun G Qtq hq => q0 fun V' hV' hW' => ?_) hK hQ
      intro _
      rw [if_neg (by (clear h hk hm hS hK hQ hE hT ha hV0 fl hV hW h12 hE1 H1 hT1 x70 eS toQ hk1 h13 hE2 hk1' H2 p2 f2r f2q f21 eS2 dm1 q0 m8 nm2 d2 hV2 hT2 m17 e18 v ho hq255 H2' p2' hT2' hV2' h92' n16' e150 e151 hkk hsg H3 p3 hq hV' hW'; omega))]
      refine b_259_37 (Tr_mono _) hV' hW' _ _ _ ?_
      intro _
      rw [if_neg (by omega)]
      refine hq255 _ _ _ ⟨by omega, q_251R hV2' h92' ?_⟩
      have sr := sgl_r hV2' h92' (v := N' 151 (a + 1))
      rcases hkk with e | e
      · rw [if_pos (by have := hsg.2 e; omega)]
        rw [e] at hq; unfold Qn_ at hq; rw [if_pos (.inr rfl)] at hq
        exact hq
      · rw [if_neg (by rcases sr with s | s; exact absurd (hsg.1 s) (by omega); (clear h hk hm hS hK hQ hE hT ha hV0 fl hV hW h12 hE1 H1 hT1 x70 eS toQ hk1 h13 hE2 hk1' H2 p2 f2r f2q f21 eS2 dm1 q0 m8 n16 nm2 d2 hV2 hT2 m17 e18 hb v ho hq255 H2' p2' hT2' hV2' h92' n16' e150 e151 hsg H3 p3 hq hV' hW' e; omega))]
        refine ⟨by omega, q_236 ?_⟩
        rw [e, ← e150, Qn_nt n16' (.inr hb) (by decide)] at hq
        exact hq
    have h92 := H2.1.1.2.1.1.1
    have es : sgl N' (N' 151 (a + 1)) = sgl (nx_ (nx_ N)) (nx_ (nx_ N) 151 (a + 1)) := by
      unfold sgl; rw [e151, OWI_6 (OWX_I ho) (by decide) (by decide), OWI_r (OWX_I ho) (r := 152) (by decide)]
    rw [es] at main
    refine x_112R hT2 hV2 h92 nm2 ?_
    have f7 := ER_fl hE2
    by_cases c : sgl (nx_ (nx_ N)) (nx_ (nx_ N) 151 (a + 1)) = -1
    · rw [if_pos c]
      have := main 0 (.inl rfl) ⟨fun _ => rfl, fun _ => c⟩
      unfold Xn_ at this; rw [if_pos (.inr rfl)] at this
      exact this
    · rw [if_neg c]
      have := main 3 (.inr rfl) ⟨fun e => absurd e c, fun e => absurd e (by decide)⟩
      unfold Xn_ at this; rw [if_neg (by (clear h hk hm hS hK hQ hE hT ha hV0 fl hV hW h12 hE1 H1 hT1 x70 eS toQ hk1 h13 hE2 hk1' H2 p2 f2r f2q f21 eS2 dm1 q0 m8 nm2 d2 hV2 hT2 m17 e18 v ho hq255 H2' p2' hT2' hV2' h92' n16' e150 e151 main h92 es f7 c this; lia))] at this
      exact x_116 (by omega) (by omega) f7.1 f7.2 this
end TMs
end T238_tm
section T239_vl
/-! VAR: its end (X 130 | Q 258) -/
def szS (κ ν : Int → Int) (a : Int) : Option Int := if κ a = 291 then (gS a).bind fun a1 => if κ a1 = 101 ∧ 1 ≤ ν a1 ∧ ν a1 ≤ 8 then (gS a1).bind fun a2 => tS κ 293 a2 else none else some a
def vrS (κ ν : Int → Int) (dm : Int → Bool) (a : Int) : Option Int := (gS a).bind fun a1 => (tS κ 100 a1).bind fun a2 => if dm a1 then (tS κ 258 a2).bind fun a3 => (srS κ a3).bind fun a4 => (szS κ ν a4).bind fun a5 => tS κ 259 a5 else none
def qVL (dq : Nat) (n : Int) (N : mm_) (G : mm_ → Prop) (Qt : qt_) : Prop := Tr_ wd0 pg0 (dq + 17) 228 [.inr (.inr 6), .inl 3] N (ri_ fun v4 M4 => if v4 = 0 then False else Tr_ wd0 pg0 (dq + 17) 258 [.inr (.inr 6), .inl n] M4 (rv_ G) Qt) Qt
section VLs
variable {dq : Nat} {b F : Int} {M N : mm_} {a n : Int} {Kv : mm_ → Prop} {Qt : qt_}
theorem y_vr3 [Inhabited gh_] {F5 : Int} {M5 N5 : mm_} {a5 t s z l : Int} (h01 : b = 0 ∨ b = 1) (H5 : HDR b F M5 N5 a5) (p5 : PHF b F F M N M5 N5) (hlo : M 1 3 ≤ t) (ha5 : a + 4 ≤ a5) (nm5 : nm9_ M5 t) (hta : t < a5) (hlt : b = 0 → ∀ u, DCL M5 (M5 1 18) u → u < t) (hn : b = 0 → n = M5 124 (M5 1 18) ∧ n < 8 ∧ N5 170 (M 1 18) ≤ n ∧ N5 170 = N 170 ∧ M5 126 = M 126) (hz : 0 ≤ z ∧ z ≤ 8) (hs : 0 ≤ s ∧ s ≤ 2) (hf : M5 1 7 + 1 + 8 * (1201 - a5) ≤ 1000000000 - (gg_ : Int)) (hl : gd_ M5 l) (x70 : M5 70 = M 70) (x71 : M5 71 = M 71)
    (dm1 : b = 1 → DMT M t = true) (sy : ∀ dm, dm t = true → vrS (M 70) (M 73) dm a = tS (M 70) 259 a5) (hS : b = 1 → tS (M 70) 259 a5 ≠ none)
    (q5 : ∀ (G : mm_ → Prop) (Qtq : qt_), ((b = 0 → Tr_ wd0 pg0 (dq + 16) 256 [.inr (.inr 6), .inl n, .inl (s + 1), .inl z, .inl (M 71 l)] (vB_ b N5 n t) (rv_ fun M13 => Tr_ wd0 pg0 (dq + 16) 244 [.inr (.inr 6), .inl 59] M13 (rv_ fun M14 => rv_ G [] M14) Qtq) Qtq) ∧ (b = 1 → Tr_ wd0 pg0 (dq + 16) 244 [.inr (.inr 6), .inl 59] (vB_ b N5 n t) (rv_ fun M14 => rv_ G [] M14) Qtq)) → qVL dq n N G Qtq)
    (hK : ∀ F' M' N' a', HDR b F' M' N' a' → a + 5 ≤ a' → PHF b F F' M N M' N' → (b = 0 → M' 124 (M 1 18) = n + 1 ∧ M' 126 = M 126 ∧ N' 170 = N 170) → (∀ dm, DOK b dm M M' → vrS (M 70) (M 73) dm a = some a') → (∀ (G : mm_ → Prop) (Qtq : qt_), G N' → qVL dq n N G Qtq) → Kv M')
    (hQ : b = 0 → ∀ Mx', XPb M Mx' → (∀ (G : mm_ → Prop) (Qtq : qt_), (∀ M', SQp Mx' N M' → G M') → qVL dq n N G Qtq) → Qt 8 Mx') :
    Tr_ wd0 pg0 129 127 [.inr (.inr 1), .inl t, .inl s, .inl z, .inl l] M5 (rv_ fun M4 => Tr_ wd0 pg0 129 121 [.inr (.inr 1), .inl 59] M4 (rv_ fun M7 => rv_ Kv [] M7) Qt) Qt := by
  have hE5 := TS_E H5.1.1
  have e18 : M5 1 18 = M 1 18 := p5.1.2.1 18 (by decide)
  have a5b := ER_a hE5
  refine y_127 (d := 125) (N := N5) H5 nm5 (fun hb => by have := hn hb; (clear h01 H5 p5 hlo ha5 nm5 hta hlt hn hz hs hf hl x70 x71 dm1 sy hS q5 hK hQ hE5 e18 a5b hb; omega)) hz ⟨hl.1, by have := hl.2.1; omega⟩ (fun hov => ?_) (fun hb ov => ?_)
  · obtain ⟨H6, p6⟩ := HDR_w (s := s) (z := z) (n := n) (t := t) H5 nm5 hta hlt (fun hb => by have := hn hb; (clear h01 H5 p5 hlo ha5 nm5 hta hlt hn hz hs hf hl x70 x71 dm1 sy hS q5 hK hQ hE5 e18 a5b hov hb; omega)) hz hs hf (fun hb => by have := hn hb; rw [e18] at *; omega) hov
    have r70 : vM_ b M5 N5 t s z 70 = M 70 := by rw [vM_r (by decide) (by decide)]; exact x70
    have cn6 : b = 0 → vM_ b M5 N5 t s z 124 (M 1 18) = n + 1 ∧ vM_ b M5 N5 t s z 126 = M 126 ∧ vQ_ b N5 n t (s + 1) z 170 = N 170 := fun hb => by
      have c := hn hb
      have xk := vX_k (M := nd_ M5 N5 t) (t := t) (s := s) (z := z)
      rw [nd_1 (i := 18) (by decide) (by decide) (by decide), nd_r (r := 124) (by decide), e18] at xk
      rw [e18] at c
      unfold vM_ vQ_; rw [if_pos hb, if_pos hb]
      exact ⟨by rw [xk.2.2.2.2.2, ← c.1], by rw [vX_r (by decide), nd_r (by decide)]; exact c.2.2.2.2, by rw [vA_r (by decide)]; exact c.2.2.2.1⟩
    have dc6 : b = 0 → DCL (vM_ b M5 N5 t s z) (M 1 18) t := fun hb => by
      have c := hn hb
      have xk := vX_k (M := nd_ M5 N5 t) (t := t) (s := s) (z := z)
      rw [nd_1 (i := 18) (by decide) (by decide) (by decide), nd_r (r := 124) (by decide), e18] at xk
      rw [e18] at c
      have n0 := H5.1.1.1.2.1.2.2.2.2.1.1
      rw [e18] at n0
      refine .inl ⟨n, by rw [(cn6 hb).1]; (clear h01 H5 p5 hlo ha5 nm5 hta hlt hn hz hs hf hl x70 x71 dm1 sy hS q5 hK hQ hE5 e18 a5b hov H6 p6 r70 cn6 hb; omega), ?_⟩
      unfold vM_; rw [if_pos hb, c.1]; exact xk.1
    have qQ : ∀ (G : mm_ → Prop) (Qtq : qt_), Tr_ wd0 pg0 (dq + 16) 244 [.inr (.inr 6), .inl 59] (vQ_ b N5 n t (s + 1) z) (rv_ fun M14 => rv_ G [] M14) Qtq → qVL dq n N G Qtq := fun G Qtq hq => q5 G Qtq ⟨fun hb => j_256 H5 hb (by have := hn hb; have n0 := H5.1.1.1.2.1.2.2.2.2.1.1; (clear h01 H5 p5 hlo ha5 nm5 hta hlt hn hz hs hf hl x70 x71 dm1 sy hS q5 hK hQ hE5 e18 a5b hov H6 p6 r70 cn6 dc6 hq hb; omega)) hz (fun _ => hq) (fun e => absurd e (hov hb)), fun hb => by
      have ev : vB_ b N5 n t = vQ_ b N5 n t (s + 1) z := by unfold vB_ vQ_; rw [if_neg (by omega), if_neg (by omega)]
      rw [ev]; exact hq⟩
    have p7 : PHF b F (vF_ b F M5 N5 t) M N (vM_ b M5 N5 t s z) (vQ_ b N5 n t (s + 1) z) := PHFx_on (PHFx_tr (PHFx_w p5) p6) (fun _ v hv => by rw [hv.2]; exact hlo) (fun hb v hv => by omega)
    have e186 : vM_ b M5 N5 t s z 1 18 = M 1 18 := p7.1.2.1 18 (by decide)
    generalize vM_ b M5 N5 t s z = M6 at *
    generalize vQ_ b N5 n t (s + 1) z = N6 at *
    generalize vF_ b F M5 N5 t = F6 at *
    have hE6 := TS_E H6.1.1
    have hT6 := H6.1.1.1.1
    have ok1 : ∀ dm, DOK b dm M M6 → dm t = true := fun dm hd => by
      rcases h01 with hb | hb
      · exact hd.1 hb _ (by rw [e186]; exact dc6 hb)
      · rw [hd.2 hb]; exact dm1 hb
    refine y_121 hE6 (by decide) (fun hb => by rw [r70]; exact hS hb) (fun k2 h13 hE7 => ?_) (fun hb k2 h13 => ?_) (fun hb k2 => ?_)
    · have H7 := HDR_go H6 hE7
      refine rv_i (hK F6 (nX_ M6) (nx_ N6) (a5 + 1) H7 (by omega) (PHF_tr p7 (PHF_go H6 (by rw [k2]; decide))) (fun hb => by rw [nX_ne (by decide), nX_ne (by decide), nx_ne (by decide)]; exact cn6 hb) (fun dm hd => ?_) (fun G Qtq hg => qQ G Qtq (j_244t hT6 hE6 (by decide) k2 h13 (rv_i hg))))
      rw [sy dm (ok1 dm (DOK_s p7 (PHF_go H6 (by rw [k2]; decide)) hd).1), tS_e (by rw [← r70]; exact k2) h13]
    · have hsp := SQ_bf hE6 hb (k := 2) (by decide) QA_rf
      exact hQ hb _ (XPb_tr (PHF_X p7) XPb_fl) (fun G Qtq hg => qQ G Qtq (j_244r hT6 hE6 hb (by decide) k2 h13 (rv_i (hg _ (SQp_tr (PHF_Q p7) (SQ_P hsp))))))
    · have hsp := SQ_bf hE6 hb (k := 1) (by decide) QA_rf
      exact hQ hb _ (XPb_tr (PHF_X p7) XPb_fl) (fun G Qtq hg => qQ G Qtq (j_244w hT6 hE6 hb (by decide) k2 (rv_i (hg _ (SQp_tr (PHF_Q p7) (SQ_P hsp))))))
  · have sp2 : sp_ (bf_ (vQ_ b N5 n t (s + 1) z) 2 (M 71 l)) := bf_sp (by rw [vQ_6]; exact hE5.2.2.2.2.2.2.2.1.trans hb) (by decide)
    refine hQ hb _ (XPb_tr (PHF_X p5) XPb_fl) (fun G Qtq hg => q5 G Qtq ⟨fun _ => ?_, fun hb1 => by omega⟩)
    refine j_256 H5 hb (by have := hn hb; have n0 := H5.1.1.1.2.1.2.2.2.2.1.1; omega) hz (fun e => absurd ov e) (fun _ => q_244s sp2 (rv_i (hg _ ⟨sp2, ?_, ?_, ?_, QPb_tr (PHF_Q p5) (QPb_tr ⟨fun r hr => vQ_r (fun e => hr (by unfold QPRr; (clear h01 H5 p5 hlo ha5 nm5 hta hlt hn hz hs hf hl x70 x71 dm1 sy hS q5 hK hQ hE5 e18 a5b hb ov sp2 hg hr; lia))) (fun e => hr (by revert e; unfold vqL QPRr; simp only [List.mem_cons, List.not_mem_nil, or_false]; omega)), fun i _ => by rw [vQ_6]⟩ (QF_P bf_QF))⟩)))
    · unfold in9_; rw [bf_6 (by decide) (by decide), vQ_6, hE5.2.2.1]; (clear h01 H5 p5 hlo ha5 nm5 hta hlt hn hz hs hf hl x70 x71 dm1 sy hS q5 hK hQ hE5 e18 hb ov sp2 hg; omega)
    · unfold bf_ flX_; rw [up_off (by decide), up_at, up_off (by decide), up_at]
    · refine ⟨?_, fl_b7 (by assumption)⟩; unfold bf_ flX_; rw [up_at, up_at, x71]
end VLs
end T239_vl
section T240_vl
/-! VAR (X 130 | Q 258): with its size -/
/-- Q behind the sort -/
def c58 (dq : Nat) (n t p v2 : Int) (V : vv_) (G : mm_ → Prop) (Qt : qt_) (M5 : mm_) : Prop :=
       Tr_ wd0 pg0 (dq + 16) 237 [.inr (.inr 6), .inl 91] M5 (ri_ fun v4 M6 =>
        (if v4 = 0 then
         (bl_ (M6 6 16) → (if M6 6 16 = 0 then
          Tr_ wd0 pg0 (dq + 16) 256 [.inr (.inr 6), .inl n, .inl v2, .inl 0, .inl p] M6 (rv_ fun M13 =>
           Tr_ wd0 pg0 (dq + 16) 244 [.inr (.inr 6), .inl 59] M13 (rv_ fun M14 =>
            rv_ G [] M14) Qt) Qt
         else
          Tr_ wd0 pg0 (dq + 16) 244 [.inr (.inr 6), .inl 59] M6 (rv_ fun M12 =>
           rv_ G [] M12) Qt))
        else
         Tr_ wd0 pg0 (dq + 16) 239 [.inr (.inr 6), .inl 91] M6 (rv_ fun M7 =>
          (0 ≤ M7 6 12 ∧ M7 6 12 < 1202) ∧
           Tr_ wd0 pg0 (dq + 16) 249 [.inr (.inr 6)] M7 (ri_ fun v5 M8 =>
           Tr_ wd0 pg0 (dq + 16) 227 [.inr (.inr 6)] M8 (ri_ fun v6 M9 =>
            (if v6 = 0 then
             (if v5 < 1 then
              Tr_ wd0 pg0 (dq + 16) 231 [.inr (.inr 6), .inl 2, .inl (M7 150 (M7 6 12))] M9 (rv_ fun M10 =>
               V 119 [rr 6, ii n, ii t, ii p, ii v2, ii (M7 150 (M7 6 12)), ii v5, none] [] M10) Qt
             else
              (if v5 ≤ 8 then
               V 119 [rr 6, ii n, ii t, ii p, ii v2, ii (M7 150 (M7 6 12)), ii v5, none] [] M9
              else
               Tr_ wd0 pg0 (dq + 16) 231 [.inr (.inr 6), .inl 2, .inl (M7 150 (M7 6 12))] M9 (rv_ fun M11 =>
                V 119 [rr 6, ii n, ii t, ii p, ii v2, ii (M7 150 (M7 6 12)), ii v5, none] [] M11) Qt))
            else
             V 119 [rr 6, ii n, ii t, ii p, ii v2, ii (M7 150 (M7 6 12)), ii v5, none] [] M9)) Qt) Qt) Qt)) Qt
section VLt
variable {dq : Nat} {b F : Int} {M N : mm_} {a n : Int} {Kv : mm_ → Prop} {Qt : qt_}
theorem q119_s [Inhabited gh_] {V : vv_} {G : mm_ → Prop} {Qtq : qt_} {x1 x2 x3 x4 x5 x6 : Int} (hV : Cl_ wd0 (Tr_ wd0 pg0 (dq + 16)) V (rv_ G) Qtq m_258) (hW : Wk_ V) (hs : sp_ N) (hi : in9_ N) (h : G N) : V 119 [rr 6, ii x1, ii x2, ii x3, ii x4, ii x5, ii x6, none] [] N := b_258_119 (Tr_mono _) hV hW _ _ _ _ _ _ _ ⟨hi, q_243s hs (q_227s hs (by rw [if_neg (by decide)]; exact q_244s hs (rv_i h)))⟩
theorem q_258z [Inhabited gh_] {d : Nat} {G : mm_ → Prop} (hs : sp_ N) (hi : in9_ N) (h : G N) : Tr_ wd0 pg0 (d + 17) 258 [.inr (.inr 6), .inl n] N (rv_ G) Qt := t_258 fun V hV hW => b_258_0 (Tr_mono _) hV hW _ _ (q_233s hs (q_254s hs (q_244s hs ⟨hi, q_241s hs hi (q_227s hs (by rw [if_neg (by decide)]; exact rv_i h))⟩)))
/-- Q's number, as X's count sees it -/
theorem k_249w [Inhabited gh_] {K : Int → mm_ → Prop} {d : Nat} {o : Int} (hT : Tks M N) (hE : ER b F M N a o) (hb : b = 0) (hk : M 70 a ≠ 101) (h : ∀ v, K v (bf_ N 1 (M 71 a))) : Tr_ wd0 pg0 (d + 3) 249 [.inr (.inr 6)] N (ri_ K) Qt := by
  have kq := ER_k hT hE
  have h149 : N 149 (N 6 12) ≠ 2 := fun e => hk ((kq_u kq.1).1 e)
  refine t_249 fun V hV hW => b_249_0 (Tr_mono _) hV hW _ (q_227g (ER_goq hE) ?_)
  rw [if_pos rfl]
  refine ⟨kq.2.2.1, ?_⟩
  rw [if_neg h149]
  refine ⟨kq.2.2.1, ?_⟩
  rw [if_neg h149]
  exact j_234 hT hE hb (ri_i (h 0))
theorem k_249t [Inhabited gh_] {K : Int → mm_ → Prop} {d : Nat} {o : Int} (hT : Tks M N) (hE : ER b F M N a o) (hk : M 70 a = 101) (h12 : a < 1200) (h : K (M 73 a) (nx_ N)) : Tr_ wd0 pg0 (d + 3) 249 [.inr (.inr 6)] N (ri_ K) Qt := by
  have kq := ER_k hT hE
  have h149 : N 149 (N 6 12) = 2 := (kq_u kq.1).2 hk
  have e12 : N 6 12 = a := hE.2.2.1
  have v := (hT a hE.1).2.2.1 hk
  have ev : w32 (N 151 (N 6 12)) = M 73 a := by rw [e12, v.1]; exact w32_id (by omega) (by omega)
  refine t_249 fun V hV hW => b_249_0 (Tr_mono _) hV hW _ (q_227g (ER_goq hE) ?_)
  rw [if_pos rfl]
  refine ⟨kq.2.2.1, ?_⟩
  rw [if_pos h149]
  refine ⟨kq.2.2.1, kq.2.2.1, ?_⟩
  rw [if_pos h149, ev]
  exact q_230g (ER_goq hE) kq.2.2.2.1 (kq.2.2.2.2.1 h12) (ri_i h)
theorem k_249r [Inhabited gh_] {K : Int → mm_ → Prop} {d : Nat} {o : Int} (hT : Tks M N) (hE : ER b F M N a o) (hb : b = 0) (hk : M 70 a = 101) (h12 : a = 1200) (h : ∀ v, K v (bf_ N 2 (M 71 a))) : Tr_ wd0 pg0 (d + 3) 249 [.inr (.inr 6)] N (ri_ K) Qt := by
  have kq := ER_k hT hE
  have h149 : N 149 (N 6 12) = 2 := (kq_u kq.1).2 hk
  refine t_249 fun V hV hW => b_249_0 (Tr_mono _) hV hW _ (q_227g (ER_goq hE) ?_)
  rw [if_pos rfl]
  refine ⟨kq.2.2.1, ?_⟩
  rw [if_pos h149]
  refine ⟨kq.2.2.1, kq.2.2.1, ?_⟩
  rw [if_pos h149]
  refine q_230r (ER_ok hE hb) (kq.2.2.2.2.2 h12) (ri_i ?_)
  rw [kq.2.1]; exact h _
/-- X's count up to 8, a size -/
theorem y_124z [Inhabited gh_] {K : Int → mm_ → Prop} {d : Nat} {o : Int} (hE : ER b F M N a o) (hS : b = 1 → M 70 a = 101 ∧ M 73 a ≤ 8 ∧ a < 1200) (hg : M 70 a = 101 → M 73 a ≤ 8 → a < 1200 → ER b F (nX_ M) (nx_ N) (a + 1) o → K (M 73 a) (nX_ M)) (h2 : b = 0 → M 70 a = 101 → (8 < M 73 a ∨ a = 1200) → Qt 8 (flX_ M 2 a)) (h1 : b = 0 → M 70 a ≠ 101 → Qt 8 (flX_ M 1 a)) : Tr_ wd0 pg0 (d + 5) 124 [.inr (.inr 1), .inl 8] M (ri_ K) Qt := by
  have ha := ER_a hE
  have e13 : M 1 3 = a := hE.2.1
  have h01 := bl01 hE
  refine t_124 fun V hV hW => b_124_0 (Tr_mono _) hV hW _ _ ?_
  refine y_103 hE (fun c => ?_) (fun c => ?_)
  · rw [if_neg (by decide), e13]
    refine ⟨by omega, ?_⟩
    by_cases c8 : M 73 a ≤ 8
    · rw [if_pos c8]
      refine x_110 ha.1 (by omega) (fun _ => ?_) (fun e => absurd rfl e)
      refine t_125 fun V hV hW => b_125_0 (Tr_mono _) hV hW _ ⟨by rw [e13]; (clear hE hS hg h2 h1 h01 c c8 hV hW; omega), ?_⟩
      rw [e13]
      refine y_108 hE (by decide) (fun hb => by have := hS hb; rw [tS_e c this.2.2]; exact fun e => by cases e) (fun _ h12 hE1 => ri_i (ri_i (hg c c8 h12 hE1))) (fun hb _ h12 => h2 hb c (.inr h12)) (fun hb e => absurd c e)
    · rw [if_neg c8]
      refine x_110 ha.1 (by omega) (fun e => absurd e (by decide)) (fun _ => ?_)
      rcases h01 with hb | hb
      · exact h2 hb c (.inl (by omega))
      · exact absurd (hS hb).2.1 c8
  · rw [if_pos rfl]
    refine x_109 (ER_iX hE) ?_
    rw [if_neg (by decide), e13]
    rcases h01 with hb | hb
    · exact h1 hb c
    · exact absurd (hS hb).1 c
end VLt
end T240_vl
section T241_vl
/-! VAR: from behind its sort on -/
section VLu
variable {dq : Nat} {b F : Int} {M N : mm_} {a n : Int} {Kv : mm_ → Prop} {Qt : qt_} {V : vv_}
theorem y_vr2 [Inhabited gh_] {M4 N4 : mm_} {a4 t s l0 x1 x3 : Int} (hV : Cl_ wd0 (Tr_ wd0 pg0 129) V (rv_ Kv) Qt m_130) (hW : Wk_ V) (H4 : HDR b F M4 N4 a4) (p4 : PHF b F F M N M4 N4) (hlo : M 1 3 ≤ t) (ha4 : a + 4 ≤ a4) (nm4 : nm9_ M4 t) (hta : t < a4) (hlt : b = 0 → ∀ u, DCL M4 (M4 1 18) u → u < t) (hn : b = 0 → n = M4 124 (M4 1 18) ∧ n < 8 ∧ N4 170 (M 1 18) ≤ n ∧ N4 170 = N 170 ∧ M4 126 = M 126) (hs : 0 ≤ s ∧ s ≤ 2) (hf : M4 1 7 + 1 + 8 * (1201 - a4) ≤ 1000000000 - (gg_ : Int)) (hl : gd_ M4 l0) (x70 : M4 70 = M 70) (x71 : M4 71 = M 71) (x73 : M4 73 = M 73)
    (dm1 : b = 1 → DMT M t = true) (sy : ∀ dm, dm t = true → vrS (M 70) (M 73) dm a = (szS (M 70) (M 73) a4).bind fun a5 => tS (M 70) 259 a5) (hS : b = 1 → ((szS (M 70) (M 73) a4).bind fun a5 => tS (M 70) 259 a5) ≠ none)
    (q4 : ∀ (G : mm_ → Prop) (Qtq : qt_), (∀ V' : vv_, Cl_ wd0 (Tr_ wd0 pg0 (dq + 16)) V' (rv_ G) Qtq m_258 → Wk_ V' → c58 dq n t (M 71 l0) (s + 1) V' G Qtq (vB_ b N4 n t)) → qVL dq n N G Qtq)
    (hK : ∀ F' M' N' a', HDR b F' M' N' a' → a + 5 ≤ a' → PHF b F F' M N M' N' → (b = 0 → M' 124 (M 1 18) = n + 1 ∧ M' 126 = M 126 ∧ N' 170 = N 170) → (∀ dm, DOK b dm M M' → vrS (M 70) (M 73) dm a = some a') → (∀ (G : mm_ → Prop) (Qtq : qt_), G N' → qVL dq n N G Qtq) → Kv M')
    (hQ : b = 0 → ∀ Mx', XPb M Mx' → (∀ (G : mm_ → Prop) (Qtq : qt_), (∀ M', SQp Mx' N M' → G M') → qVL dq n N G Qtq) → Qt 8 Mx') :
    Tr_ wd0 pg0 129 117 [.inr (.inr 1), .inl 91] M4 (ri_ fun v2 M3 =>
    (if v2 = 0 then
     Tr_ wd0 pg0 129 127 [.inr (.inr 1), .inl t, .inl s, .inl 0, .inl l0] M3 (rv_ fun M4 =>
      Tr_ wd0 pg0 129 121 [.inr (.inr 1), .inl 59] M4 (rv_ fun M5 =>
       rv_ Kv [] M5) Qt) Qt
    else
     Tr_ wd0 pg0 129 118 [.inr (.inr 1)] M3 (rv_ fun M6 =>
      Tr_ wd0 pg0 129 105 [.inr (.inr 1)] M6 (rv_ fun M7 =>
       Tr_ wd0 pg0 129 124 [.inr (.inr 1), .inl 8] M7 (ri_ fun v3 M8 =>
        (if v3 = 0 then
         Tr_ wd0 pg0 129 110 [.inr (.inr 1), .inl 1, .inl (M7 1 3)] M8 (rv_ fun M10 =>
          V 240 [rr 1, ii x1, ii t, ii x3, ii s, ii v3, ii (M7 1 3)] [] M10) Qt
        else
         Tr_ wd0 pg0 129 110 [.inr (.inr 1), .inl 0, .inl (M7 1 3)] M8 (rv_ fun M9 =>
          V 240 [rr 1, ii x1, ii t, ii x3, ii s, ii v3, ii (M7 1 3)] [] M9) Qt)) Qt) Qt) Qt)) Qt := by
  have hE4 := TS_E H4.1.1
  have hT4 := H4.1.1.1.1
  have h01 := bl01 hE4
  have ha4' := ER_a hE4
  have vE4 : ER b F M4 (vB_ b N4 n t) a4 0 := ER_vB hE4
  have vT4 : Tks M4 (vB_ b N4 n t) := Tks_vB hT4
  have n16 : vB_ b N4 n t 6 16 = b := vE4.2.2.2.2.2.2.2.1
  refine y_117 hE4 (by decide) (fun c => ?_) (fun c => ?_)
  · -- with a size
    rw [if_neg (by decide)]
    have c' : M 70 a4 = 291 := by rw [← x70]; exact c
    have eZ : szS (M 70) (M 73) a4 = (gS a4).bind fun a1 => if M 70 a1 = 101 ∧ 1 ≤ M 73 a1 ∧ M 73 a1 ≤ 8 then (gS a1).bind fun a2 => tS (M 70) 293 a2 else none := by unfold szS; rw [if_pos c']
    refine y_118 hE4 (fun _ => by decide) (fun _ oE => ?_) (fun _ e => absurd e (by decide))
    have oE4 : ER b F (o1_ M4) (q1_ N4) a4 1 := oE
    have qs4 : QPb N (vB_ b N4 n t) := QPb_tr (PHF_Q p4) QPb_vB
    have q5 : ∀ (G : mm_ → Prop) (Qtq : qt_), (∀ V' : vv_, Cl_ wd0 (Tr_ wd0 pg0 (dq + 16)) V' (rv_ G) Qtq m_258 → Wk_ V' → Tr_ wd0 pg0 (dq + 16) 239 [.inr (.inr 6), .inl 91] (vB_ b N4 n t) (rv_ fun M7 =>
          (0 ≤ M7 6 12 ∧ M7 6 12 < 1202) ∧
           Tr_ wd0 pg0 (dq + 16) 249 [.inr (.inr 6)] M7 (ri_ fun v5 M8 =>
           Tr_ wd0 pg0 (dq + 16) 227 [.inr (.inr 6)] M8 (ri_ fun v6 M9 =>
            (if v6 = 0 then
             (if v5 < 1 then
              Tr_ wd0 pg0 (dq + 16) 231 [.inr (.inr 6), .inl 2, .inl (M7 150 (M7 6 12))] M9 (rv_ fun M10 =>
               V' 119 [rr 6, ii n, ii t, ii (M 71 l0), ii (s + 1), ii (M7 150 (M7 6 12)), ii v5, none] [] M10) Qtq
             else
              (if v5 ≤ 8 then
               V' 119 [rr 6, ii n, ii t, ii (M 71 l0), ii (s + 1), ii (M7 150 (M7 6 12)), ii v5, none] [] M9
              else
               Tr_ wd0 pg0 (dq + 16) 231 [.inr (.inr 6), .inl 2, .inl (M7 150 (M7 6 12))] M9 (rv_ fun M11 =>
                V' 119 [rr 6, ii n, ii t, ii (M 71 l0), ii (s + 1), ii (M7 150 (M7 6 12)), ii v5, none] [] M11) Qtq))
            else
             V' 119 [rr 6, ii n, ii t, ii (M 71 l0), ii (s + 1), ii (M7 150 (M7 6 12)), ii v5, none] [] M9)) Qtq) Qtq) Qtq) → qVL dq n N G Qtq := fun G Qtq hq => q4 G Qtq fun V' hV' hW' => by
      unfold c58
      refine j_237t vT4 vE4 (by decide) c ?_
      rw [if_neg (by decide)]
      exact hq V' hV' hW'
    refine y_105 oE4 (by rw [up_ne (by decide), c]; decide) (fun hb => by have := hS hb; rw [eZ] at this; exact bind_n (bind_n this)) (fun h12 _ => ?_) (fun hb h12 => ?_)
    rotate_left
    · have e2 : ER b F (o1_ M4) (q1_ (vB_ b N4 n t)) a4 1 := ER_o1 vE4
      have hsp := SQ_bf e2 hb (k := 2) (by decide) QA_rf
      refine hQ hb _ (XPb_tr (PHF_X p4) (XPb_tr XPb_o1 XPb_fl)) (fun G Qtq hg => q5 G Qtq fun V' hV' hW' => j_239r vT4 vE4 hb (by decide) c h12 (by decide) ?_)
      have si : sp_ (bf_ (q1_ (vB_ b N4 n t)) 2 (M4 71 a4)) := hsp.1
      exact ⟨hsp.2.1, q_249s si (q_227s si (by rw [if_neg (by decide)]; exact q119_s hV' hW' si hsp.2.1 (hg _ (SQp_tr (QPb_tr qs4 QPb_q1) (SQ_P hsp)))))⟩
    have eX : nX_ (up_ M4 1 6 (0 + 1)) = o1_ (nX_ M4) := nX_o1
    rw [eX]
    have hE5 := (ER_go hE4 h12 (by rw [c]; decide)).1
    have H5 := HDR_go H4 hE5
    have vE5 : ER b F (o1_ (nX_ M4)) (q1_ (vB_ b (nx_ N4) n t)) (a4 + 1) 1 := ER_o1 (ER_vB hE5)
    have vT5 : Tks (o1_ (nX_ M4)) (q1_ (vB_ b (nx_ N4) n t)) := Tks_a (XF_XA o1_XF) (QF_QA q1_QF) (Tks_vB H5.1.1.1.1)
    have m13 : o1_ (nX_ M4) 1 3 = a4 + 1 := vE5.2.1
    rw [m13]
    have y70 : o1_ (nX_ M4) 70 = M 70 := by rw [o1_r (by decide), nX_ne (by decide)]; exact x70
    have y73 : o1_ (nX_ M4) 73 = M 73 := by rw [o1_r (by decide), nX_ne (by decide)]; exact x73
    have y71 : o1_ (nX_ M4) 71 = M 71 := by rw [o1_r (by decide), nX_ne (by decide)]; exact x71
    have xs5 : XPb M (o1_ (nX_ M4)) := XPb_tr (PHF_X p4) (XPb_tr XPb_nX XPb_o1)
    have qs5 : QPb N (q1_ (vB_ b (nx_ N4) n t)) := QPb_tr (PHF_Q p4) (QPb_tr QPb_nx (QPb_tr QPb_vB QPb_q1))
    have eZ2 : szS (M 70) (M 73) a4 = if M 70 (a4 + 1) = 101 ∧ 1 ≤ M 73 (a4 + 1) ∧ M 73 (a4 + 1) ≤ 8 then (gS (a4 + 1)).bind fun a2 => tS (M 70) 293 a2 else none := by rw [eZ, gS_e h12, Option.bind_some]
    have kq5 := ER_k vT5 vE5
    have q6 : ∀ (G : mm_ → Prop) (Qtq : qt_), (∀ V' : vv_, Cl_ wd0 (Tr_ wd0 pg0 (dq + 16)) V' (rv_ G) Qtq m_258 → Wk_ V' → Tr_ wd0 pg0 (dq + 16) 249 [.inr (.inr 6)] (q1_ (vB_ b (nx_ N4) n t)) (ri_ fun v5 M8 =>
           Tr_ wd0 pg0 (dq + 16) 227 [.inr (.inr 6)] M8 (ri_ fun v6 M9 =>
            (if v6 = 0 then
             (if v5 < 1 then
              Tr_ wd0 pg0 (dq + 16) 231 [.inr (.inr 6), .inl 2, .inl (M 71 (a4 + 1))] M9 (rv_ fun M10 =>
               V' 119 [rr 6, ii n, ii t, ii (M 71 l0), ii (s + 1), ii (M 71 (a4 + 1)), ii v5, none] [] M10) Qtq
             else
              (if v5 ≤ 8 then
               V' 119 [rr 6, ii n, ii t, ii (M 71 l0), ii (s + 1), ii (M 71 (a4 + 1)), ii v5, none] [] M9
              else
               Tr_ wd0 pg0 (dq + 16) 231 [.inr (.inr 6), .inl 2, .inl (M 71 (a4 + 1))] M9 (rv_ fun M11 =>
                V' 119 [rr 6, ii n, ii t, ii (M 71 l0), ii (s + 1), ii (M 71 (a4 + 1)), ii v5, none] [] M11) Qtq))
            else
             V' 119 [rr 6, ii n, ii t, ii (M 71 l0), ii (s + 1), ii (M 71 (a4 + 1)), ii v5, none] [] M9)) Qtq) Qtq) → qVL dq n N G Qtq := fun G Qtq hq => q5 G Qtq fun V' hV' hW' => j_239t vT4 vE4 (by decide) c h12 (by decide) (by
      have e : nx_ (up_ (vB_ b N4 n t) 6 15 (0 + 1)) = q1_ (vB_ b (nx_ N4) n t) := by
        have : nx_ (q1_ (vB_ b N4 n t)) = q1_ (vB_ b (nx_ N4) n t) := by rw [nx_q1, vB_nx]
        exact this
      rw [e, kq5.2.1, y71]
      exact ⟨kq5.2.2.1, hq V' hV' hW'⟩)
    have hZ : b = 1 → (M 70 (a4 + 1) = 101 ∧ 1 ≤ M 73 (a4 + 1) ∧ M 73 (a4 + 1) ≤ 8) ∧ a4 + 1 < 1200 := fun hb => by
      have h9 := hS hb
      rw [eZ2] at h9
      by_cases cc : M 70 (a4 + 1) = 101 ∧ 1 ≤ M 73 (a4 + 1) ∧ M 73 (a4 + 1) ≤ 8
      · rw [if_pos cc] at h9; exact ⟨cc, gS_n (bind_n (bind_n h9))⟩
      · rw [if_neg cc] at h9; exact absurd rfl h9
    -- a size that does not fit, Q
    have bad : ∀ (hb : b = 0) (h13 : a4 + 1 < 1200) (hk : M 70 (a4 + 1) = 101) (hv : M 73 (a4 + 1) < 1 ∨ 8 < M 73 (a4 + 1)) (Mx' : mm_), Mx' 1 4 = 2 → (Mx' 1 5 = M 71 (a4 + 1) ∧ 0 ≤ Mx' 1 7 ∧ Mx' 1 7 ≤ 1000001000 - (gg_ : Int)) → ∀ (G : mm_ → Prop) (Qtq : qt_), (∀ M', SQp Mx' N M' → G M') → qVL dq n N G Qtq := fun hb h13 hk hv Mx' e4 e5 G Qtq hg => q6 G Qtq fun V' hV' hW' => by
      refine k_249t vT5 vE5 (by rw [y70]; exact hk) h13 ?_
      rw [y73]
      have hE6 := (ER_go vE5 h13 (by rw [y70, hk]; decide)).1
      have sp2 : sp_ (bf_ (nx_ (q1_ (vB_ b (nx_ N4) n t))) 2 (M 71 (a4 + 1))) := bf_sp (hE6.2.2.2.2.2.2.2.1.trans hb) (by decide)
      have fin : G (bf_ (nx_ (q1_ (vB_ b (nx_ N4) n t))) 2 (M 71 (a4 + 1))) := hg _ ⟨sp2, by unfold in9_; rw [bf_6 (by decide) (by decide), hE6.2.2.1]; omega, by unfold bf_; rw [up_off (by decide), up_at]; exact e4.symm, ⟨by unfold bf_; rw [up_at]; exact e5.1.symm, e5.2⟩, QPb_tr qs5 (QPb_tr QPb_nx (QF_P bf_QF))⟩
      have i2 : in9_ (bf_ (nx_ (q1_ (vB_ b (nx_ N4) n t))) 2 (M 71 (a4 + 1))) := by unfold in9_; rw [bf_6 (by decide) (by decide), hE6.2.2.1]; omega
      refine q_227g (ER_goq hE6) ?_
      rw [if_pos rfl]
      by_cases cv : M 73 (a4 + 1) < 1
      · rw [if_pos cv]
        exact q_231o (hE6.2.2.2.2.2.2.2.2.2.1 hb) (q119_s hV' hW' sp2 i2 fin)
      · rw [if_neg cv, if_neg (by (clear hV hW H4 p4 hlo ha4 nm4 hta hlt hn hs hf hl x70 x71 x73 dm1 sy hS q4 hK hQ hE4 hT4 h01 ha4' vE4 vT4 n16 c c' eZ oE oE4 qs4 q5 h12 eX hE5 H5 vE5 vT5 m13 y70 y73 y71 xs5 qs5 eZ2 kq5 q6 hZ hb h13 hk e4 e5 hg hV' hW' hE6 sp2 fin i2; omega))]
        exact q_231o (hE6.2.2.2.2.2.2.2.2.2.1 hb) (q119_s hV' hW' sp2 i2 fin)
    refine y_124z (d := 124) vE5 (fun hb => by rw [y70, y73]; have := hZ hb; (clear hV hW H4 p4 hlo ha4 nm4 hta hlt hn hs hf hl x70 x71 x73 dm1 sy hS q4 hK hQ hE4 hT4 h01 vE4 vT4 n16 c c' eZ oE oE4 qs4 q5 eX hE5 H5 vE5 vT5 y70 y73 y71 xs5 qs5 eZ2 kq5 q6 hZ bad hb; omega)) (fun hk hv h13 _ => ?_) (fun hb hk hv => ?_) (fun hb hk => ?_)
    rotate_left
    · rw [y70] at hk
      rw [y73] at hv
      by_cases h13 : a4 + 1 = 1200
      · have hsp := SQ_bf vE5 hb (k := 2) (by decide) QA_rf
        exact hQ hb _ (XPb_tr xs5 XPb_fl) (fun G Qtq hg => q6 G Qtq fun V' hV' hW' => k_249r vT5 vE5 hb (by rw [y70]; exact hk) h13 (fun v => q_227s hsp.1 (by rw [if_neg (by decide)]; exact q119_s hV' hW' hsp.1 hsp.2.1 (hg _ (SQp_tr qs5 (SQ_P hsp))))))
      · have a5' := ER_a vE5
        exact hQ hb _ (XPb_tr xs5 XPb_fl) (bad hb (by (clear hV hW H4 p4 hlo ha4 nm4 hta hlt hn hs hf hl x70 x71 x73 dm1 sy hS q4 hK hQ hE4 hT4 h01 vE4 vT4 n16 c c' eZ oE oE4 qs4 q5 eX hE5 H5 vE5 vT5 y70 y73 y71 xs5 qs5 eZ2 kq5 q6 hZ bad hb hk hv a5'; lia)) hk (.inr (by (clear hV hW H4 p4 hlo ha4 nm4 hta hlt hn hs hf hl x70 x71 x73 dm1 sy hS q4 hK hQ hE4 hT4 h01 vE4 vT4 n16 c c' eZ oE oE4 qs4 q5 eX hE5 H5 vE5 vT5 y70 y73 y71 xs5 qs5 eZ2 kq5 q6 hZ bad hb hk a5'; lia))) _ (by unfold flX_; rw [up_off (by decide), up_at]) ⟨by unfold flX_; rw [up_at, y71], fl_b7 (by assumption)⟩)
    · have hsp := SQ_bf vE5 hb (k := 1) (by decide) QA_rf
      exact hQ hb _ (XPb_tr xs5 XPb_fl) (fun G Qtq hg => q6 G Qtq fun V' hV' hW' => k_249w vT5 vE5 hb hk (fun v => q_227s hsp.1 (by rw [if_neg (by decide)]; exact q119_s hV' hW' hsp.1 hsp.2.1 (hg _ (SQp_tr qs5 (SQ_P hsp))))))
    have hk' : M 70 (a4 + 1) = 101 := by rw [← y70]; exact hk
    have hv0 : 0 ≤ M 73 (a4 + 1) := by have := ((vT5 (a4 + 1) vE5.1).2.2.1 hk).2.1; rw [y73] at this; exact this
    rw [y73] at hv ⊢
    rw [nX_o1]
    have hE6 := (ER_go hE5 h13 (by have := y70; rw [o1_r (by decide)] at this; rw [this, hk']; decide)).1
    have H6 := HDR_go H5 hE6
    by_cases c0 : M 73 (a4 + 1) = 0
    · rw [if_pos c0]
      rcases h01 with hb | hb
      · refine x_110 (by (clear hV hW H4 p4 hlo ha4 nm4 hta hlt hn hs hf hl x70 x71 x73 dm1 sy hS q4 hK hQ hE4 hT4 vE4 vT4 n16 c c' eZ oE oE4 qs4 q5 eX hE5 H5 vE5 vT5 y70 y73 y71 xs5 qs5 eZ2 kq5 q6 hZ bad hk hv hk' hv0 hE6 H6 c0 hb; lia)) (by (clear hV hW H4 p4 hlo ha4 nm4 hta hlt hn hs hf hl x70 x71 x73 dm1 sy hS q4 hK hQ hE4 hT4 vE4 vT4 n16 c c' eZ oE oE4 qs4 q5 eX hE5 H5 vE5 vT5 y70 y73 y71 xs5 qs5 eZ2 kq5 q6 hZ bad hk hv hk' hv0 hE6 H6 c0 hb; omega)) (fun e => absurd e (by decide)) (fun _ => ?_)
        exact hQ hb _ (XPb_tr (PHF_X p4) (XPb_tr XPb_nX (XPb_tr XPb_nX (XPb_tr XPb_o1 XPb_fl)))) (bad hb h13 hk' (.inl (by (clear hV hW H4 p4 hlo ha4 nm4 hta hlt hn hs hf hl x70 x71 x73 dm1 sy hS q4 hK hQ hE4 hT4 ha4' vE4 vT4 n16 c c' eZ oE oE4 qs4 q5 h12 eX hE5 H5 vE5 vT5 m13 y70 y73 y71 xs5 qs5 eZ2 kq5 q6 hZ bad hk hv h13 hk' hv0 hE6 H6 hb; omega))) _ (by unfold flX_; rw [up_off (by decide), up_at]) ⟨by unfold flX_; rw [up_at, o1_r (by decide), nX_ne (by decide), nX_ne (by decide)]; rw [x71], fl_b7 (ER_o1 hE6)⟩)
      · have := hZ hb; (clear hV hW H4 p4 hlo ha4 nm4 hta hlt hn hs hf hl x70 x71 x73 dm1 sy hS q4 hK hQ hE4 hT4 ha4' vE4 vT4 n16 c c' eZ oE oE4 qs4 q5 h12 eX hE5 H5 vE5 vT5 m13 y70 y73 y71 xs5 qs5 eZ2 kq5 q6 hZ bad hk hv h13 hk' hv0 hE6 H6 hb; omega)
    rw [if_neg c0]
    refine x_110 (by omega) (by omega) (fun _ => ?_) (fun e => absurd rfl e)
    have vE6 : ER b F (o1_ (nX_ (nX_ M4))) (q1_ (vB_ b (nx_ (nx_ N4)) n t)) (a4 + 1 + 1) 1 := ER_o1 (ER_vB hE6)
    have vT6 : Tks (o1_ (nX_ (nX_ M4))) (q1_ (vB_ b (nx_ (nx_ N4)) n t)) := Tks_a (XF_XA o1_XF) (QF_QA q1_QF) (Tks_vB H6.1.1.1.1)
    have kq6 := ER_k vT6 vE6
    have z70 : o1_ (nX_ (nX_ M4)) 70 = M 70 := by rw [o1_r (by decide), nX_ne (by decide), nX_ne (by decide)]; exact x70
    have z71 : o1_ (nX_ (nX_ M4)) 71 = M 71 := by rw [o1_r (by decide), nX_ne (by decide), nX_ne (by decide)]; exact x71
    have xs6 : XPb M (o1_ (nX_ (nX_ M4))) := XPb_tr (PHF_X p4) (XPb_tr XPb_nX (XPb_tr XPb_nX XPb_o1))
    have qs6 : QPb N (q1_ (vB_ b (nx_ (nx_ N4)) n t)) := QPb_tr (PHF_Q p4) (QPb_tr QPb_nx (QPb_tr QPb_nx (QPb_tr QPb_vB QPb_q1)))
    have q7 : ∀ (G : mm_ → Prop) (Qtq : qt_), (∀ V' : vv_, Cl_ wd0 (Tr_ wd0 pg0 (dq + 16)) V' (rv_ G) Qtq m_258 → Wk_ V' → Tr_ wd0 pg0 (dq + 16) 243 [.inr (.inr 6), .inl 93] (q1_ (vB_ b (nx_ (nx_ N4)) n t)) (rv_ fun M1 =>
  Tr_ wd0 pg0 (dq + 16) 227 [.inr (.inr 6)] M1 (ri_ fun v1 M2 =>
   (if v1 = 0 then
    (bl_ (M2 6 16) → (if M2 6 16 = 0 then
     Tr_ wd0 pg0 (dq + 16) 256 [.inr (.inr 6), .inl n, .inl (s + 1), .inl (M 73 (a4 + 1)), .inl (M 71 (a4 + 1 + 1))] M2 (rv_ fun M5 =>
      Tr_ wd0 pg0 (dq + 16) 244 [.inr (.inr 6), .inl 59] M5 (rv_ fun M6 =>
       rv_ G [] M6) Qtq) Qtq
    else
     Tr_ wd0 pg0 (dq + 16) 244 [.inr (.inr 6), .inl 59] M2 (rv_ fun M4 =>
      rv_ G [] M4) Qtq))
   else
    Tr_ wd0 pg0 (dq + 16) 244 [.inr (.inr 6), .inl 59] M2 (rv_ fun M3 =>
     rv_ G [] M3) Qtq)) Qtq) Qtq) → qVL dq n N G Qtq := fun G Qtq hq => q6 G Qtq fun V' hV' hW' => k_249t vT5 vE5 (by rw [y70]; exact hk') h13 (by
      rw [nx_q1, vB_nx, y73]
      refine q_227g (ER_goq vE6) ?_
      rw [if_pos rfl, if_neg (by (clear hV hW H4 p4 hlo ha4 nm4 hta hlt hn hs hf hl x70 x71 x73 dm1 sy hS q4 hK hQ hE4 hT4 h01 vE4 vT4 n16 c c' eZ oE oE4 qs4 q5 eX hE5 H5 vE5 vT5 y70 y73 y71 xs5 qs5 eZ2 kq5 q6 hZ bad hk hk' hE6 H6 vE6 vT6 z70 z71 xs6 qs6 hq hV' hW'; lia)), if_pos hv]
      refine b_258_119 (Tr_mono _) hV' hW' _ _ _ _ _ _ _ ⟨kq6.2.2.1, ?_⟩
      rw [kq6.2.1, z71]
      exact hq V' hV' hW')
    have eZ3 : szS (M 70) (M 73) a4 = tS (M 70) 293 (a4 + 1 + 1) := by rw [eZ2, if_pos ⟨hk', by (clear hV hW H4 p4 hlo ha4 nm4 hta hlt hn hs hf hl x70 x71 x73 dm1 sy hS q4 hK hQ hE4 hT4 h01 vE4 vT4 n16 c c' eZ oE oE4 qs4 q5 eX hE5 H5 vE5 vT5 y70 y73 y71 xs5 qs5 eZ2 kq5 q6 hZ bad hk hk' hE6 H6 vE6 vT6 z70 z71 xs6 qs6 q7; lia), hv⟩, gS_e h13, Option.bind_some]
    have m13' : o1_ (nX_ (nX_ M4)) 1 3 = a4 + 1 + 1 := vE6.2.1
    refine b_130_240 (Tr_mono _) hV hW _ _ _ _ _ _ _ ?_
    rw [m13']
    refine y_121 vE6 (by decide) (fun hb => by rw [z70]; have := hS hb; rw [eZ3] at this; exact bind_n this) (fun k6 h14 _ => ?_) (fun hb k6 h14 => ?_) (fun hb k6 => ?_)
    · have e16 : nX_ (nX_ M4) 1 6 = 0 := hE6.2.2.2.1
      rw [o1_c e16]
      have k6' : nX_ (nX_ M4) 70 (a4 + 1 + 1) = 293 := by have := k6; rw [o1_r (by decide)] at this; exact this
      have hE7 := (ER_go hE6 h14 (by rw [k6']; decide)).1
      have H7 := HDR_go H6 hE7
      have r7 : ∀ r : Nat, r ≠ 1 → nX_ (nX_ (nX_ M4)) r = M4 r := fun r hr => by rw [nX_ne hr, nX_ne hr, nX_ne hr]
      have i7 : ∀ i : Int, i ≠ 3 → nX_ (nX_ (nX_ M4)) 1 i = M4 1 i := fun i hi => by rw [nX_1 hi, nX_1 hi, nX_1 hi]
      have qr7 : ∀ r : Nat, r ≠ 6 → nx_ (nx_ (nx_ N4)) r = N4 r := fun r hr => by rw [nx_ne hr, nx_ne hr, nx_ne hr]
      have eZ4 : szS (M 70) (M 73) a4 = some (a4 + 1 + 1 + 1) := by rw [eZ3, tS_e (by rw [← z70]; exact k6) h14]
      have e15 : vB_ b (nx_ (nx_ N4)) n t 6 15 = 0 := by rw [vB_6]; exact hE6.2.2.2.2.1
      have vE7 : ER b F (nX_ (nX_ (nX_ M4))) (vB_ b (nx_ (nx_ (nx_ N4))) n t) (a4 + 1 + 1 + 1) 0 := ER_vB hE7
      have gl7 : gd_ (nX_ (nX_ (nX_ M4))) (a4 + 1 + 1) := gd_c (by rw [nX_ne (by decide)]) hE6.1
      refine y_vr3 (dq := dq) (F5 := F) (a := a) (M := M) (N := N) (n := n) (l := a4 + 1 + 1) h01 H7 (PHF_tr p4 (PHF_tr (PHF_go H4 (by rw [c]; decide)) (PHF_tr (PHF_go H5 (by have := y70; rw [o1_r (by decide)] at this; rw [this, hk']; decide)) (PHF_go H6 (by rw [k6']; decide))))) hlo (by (clear hV hW H4 p4 hlo nm4 hta hlt hn hs hf hl x70 x71 x73 dm1 sy hS q4 hK hQ hE4 hT4 h01 ha4' vE4 vT4 n16 c c' eZ oE oE4 qs4 q5 h12 eX hE5 H5 vE5 vT5 y70 y73 y71 xs5 qs5 eZ2 kq5 q6 hZ bad hk hv h13 hk' hv0 hE6 H6 c0 vE6 vT6 kq6 z70 z71 xs6 qs6 q7 eZ3 k6 h14 e16 k6' hE7 H7 r7 i7 qr7 eZ4 e15 vE7 gl7; omega)) (nm9_r nm4 (r7 70 (by decide))) (by (clear hV hW H4 p4 hlo ha4 nm4 hlt hn hs hf hl x70 x71 x73 dm1 sy hS q4 hK hQ hE4 hT4 h01 ha4' vE4 vT4 n16 c c' eZ oE oE4 qs4 q5 h12 eX hE5 H5 vE5 vT5 y70 y73 y71 xs5 qs5 eZ2 kq5 q6 hZ bad hk hv h13 hk' hv0 hE6 H6 c0 vE6 vT6 kq6 z70 z71 xs6 qs6 q7 eZ3 k6 h14 e16 k6' hE7 H7 r7 i7 qr7 eZ4 e15 vE7 gl7; omega)) (fun hb u hu => ?_) (fun hb => ?_) (by (clear hV hW H4 p4 hlo ha4 nm4 hta hlt hn hs hf hl x70 x71 x73 dm1 sy hS q4 hK hQ hE4 hT4 h01 ha4' vE4 vT4 n16 c c' eZ oE oE4 qs4 q5 h12 eX hE5 H5 vE5 vT5 m13 y70 y73 y71 xs5 qs5 eZ2 kq5 q6 hZ bad hk h13 hk' hE6 H6 c0 vE6 vT6 kq6 z70 z71 xs6 qs6 q7 eZ3 m13' k6 h14 e16 k6' hE7 H7 r7 i7 qr7 eZ4 e15 vE7 gl7; omega)) hs (by rw [i7 7 (by decide)]; (clear hV hW H4 p4 hlo ha4 nm4 hta hlt hn hs hl x70 x71 x73 dm1 sy hS q4 hK hQ hE4 hT4 h01 ha4' vE4 vT4 n16 c c' eZ oE oE4 qs4 q5 h12 eX hE5 H5 vE5 vT5 y70 y73 y71 xs5 qs5 eZ2 kq5 q6 hZ bad hk hv h13 hk' hv0 hE6 H6 c0 vE6 vT6 kq6 z70 z71 xs6 qs6 q7 eZ3 k6 h14 e16 k6' hE7 H7 r7 i7 qr7 eZ4 e15 vE7 gl7; lia)) gl7 ((r7 70 (by decide)).trans x70) ((r7 71 (by decide)).trans x71) dm1 (fun dm hd => by rw [sy dm hd, eZ4, Option.bind_some]) (fun hb => by have := hS hb; rw [eZ4, Option.bind_some] at this; exact this) (fun G Qtq hq => q7 G Qtq fun V' hV' hW' => ?_) hK hQ
      · rw [i7 18 (by decide), DCL_c (r7 _ (by decide)) (r7 _ (by decide)) (r7 _ (by decide)) (r7 _ (by decide))] at hu
        exact hlt hb u hu
      · rw [i7 18 (by decide), r7 124 (by decide), qr7 170 (by decide), r7 126 (by decide)]; exact hn hb
      · refine j_243t vT6 vE6 (by decide) k6 h14 (by decide) ?_
        rw [q1_c e15, vB_nx]
        refine q_227g (ER_goq vE7) ?_
        rw [if_pos rfl]
        intro _
        have v16 : vB_ b (nx_ (nx_ (nx_ N4))) n t 6 16 = b := vE7.2.2.2.2.2.2.2.1
        rcases h01 with hb | hb
        · rw [if_pos (by (clear hV hW H4 p4 hlo ha4 nm4 hta hlt hn hs hf hl x70 x71 x73 dm1 sy hS q4 hK hQ hE4 hT4 ha4' vE4 vT4 n16 c c' eZ oE oE4 qs4 q5 h12 eX hE5 H5 vE5 vT5 m13 y70 y73 y71 xs5 qs5 eZ2 kq5 q6 hZ bad hk hv h13 hk' hv0 hE6 H6 c0 vE6 vT6 kq6 z70 z71 xs6 qs6 q7 eZ3 m13' k6 h14 e16 k6' hE7 H7 r7 i7 qr7 eZ4 e15 vE7 gl7 hq hV' hW'; lia))]; exact hq.1 hb
        · rw [if_neg (by (clear hV hW H4 p4 hlo ha4 nm4 hta hlt hn hs hf hl x70 x71 x73 dm1 sy hS q4 hK hQ hE4 hT4 ha4' vE4 vT4 n16 c c' eZ oE oE4 qs4 q5 h12 eX hE5 H5 vE5 vT5 m13 y70 y73 y71 xs5 qs5 eZ2 kq5 q6 hZ bad hk hv h13 hk' hv0 hE6 H6 c0 vE6 vT6 kq6 z70 z71 xs6 qs6 q7 eZ3 m13' k6 h14 e16 k6' hE7 H7 r7 i7 qr7 eZ4 e15 vE7 gl7 hq hV' hW'; lia))]; exact hq.2 hb
    · have hsp := SQ_bf vE6 hb (k := 2) (by decide) QA_rf
      exact hQ hb _ (XPb_tr xs6 XPb_fl) (fun G Qtq hg => q7 G Qtq fun V' hV' hW' => j_243r vT6 vE6 hb (by decide) k6 h14 (q_227s hsp.1 (by rw [if_neg (by decide)]; exact q_244s hsp.1 (rv_i (hg _ (SQp_tr qs6 (SQ_P hsp)))))))
    · have hsp := SQ_bf vE6 hb (k := 1) (by decide) QA_rf
      exact hQ hb _ (XPb_tr xs6 XPb_fl) (fun G Qtq hg => q7 G Qtq fun V' hV' hW' => j_243w vT6 vE6 hb (by decide) k6 (q_227s hsp.1 (by rw [if_neg (by decide)]; exact q_244s hsp.1 (rv_i (hg _ (SQp_tr qs6 (SQ_P hsp)))))))
  · rw [if_pos rfl]
    have c' : ¬ M 70 a4 = 291 := by rw [← x70]; exact c
    have eZ : szS (M 70) (M 73) a4 = some a4 := by unfold szS; rw [if_neg c']
    refine y_vr3 (dq := dq) (F5 := F) (a := a) (M := M) (N := N) (n := n) h01 H4 p4 hlo ha4 nm4 hta hlt hn (by decide) hs hf hl x70 x71 dm1 (fun dm hd => by rw [sy dm hd, eZ, Option.bind_some]) (fun hb => by have := hS hb; rw [eZ, Option.bind_some] at this; exact this) (fun G Qtq hq => q4 G Qtq fun V' hV' hW' => ?_) hK hQ
    unfold c58
    refine j_237f vT4 vE4 (by decide) c ?_
    rw [if_pos rfl]
    intro _
    rcases h01 with hb | hb
    · rw [if_pos (by (clear hV hW H4 p4 hlo ha4 nm4 hta hlt hn hs hf hl x70 x71 x73 dm1 sy hS q4 hK hQ hE4 hT4 ha4' vE4 vT4 c c' eZ hq hV' hW'; lia))]; exact hq.1 hb
    · rw [if_neg (by (clear hV hW H4 p4 hlo ha4 nm4 hta hlt hn hs hf hl x70 x71 x73 dm1 sy hS q4 hK hQ hE4 hT4 ha4' vE4 vT4 c c' eZ hq hV' hW'; lia))]; exact hq.2 hb
end VLu
end T241_vl
section T242_vl
/-! VAR whole (X 130 | Q 258) -/
section VLv
variable {dq : Nat} {b F : Int} {M N : mm_} {a n : Int} {Kv : mm_ → Prop} {Qt : qt_}
theorem y_130v [Inhabited gh_] (h : HDR b F M N a) (hk : M 70 a = 3) (hn : b = 0 → M 124 (M 1 18) = n ∧ N 170 (M 1 18) ≤ n) (hS : b = 1 → vrS (M 70) (M 73) (DMT M) a ≠ none)
    (hK : ∀ F' M' N' a', HDR b F' M' N' a' → a + 5 ≤ a' → PHF b F F' M N M' N' → (b = 0 → M' 124 (M 1 18) = n + 1 ∧ M' 126 = M 126 ∧ N' 170 = N 170) → (∀ dm, DOK b dm M M' → vrS (M 70) (M 73) dm a = some a') → (∀ (G : mm_ → Prop) (Qtq : qt_), G N' → qVL dq n N G Qtq) → Kv M')
    (hQ : b = 0 → ∀ Mx', XPb M Mx' → (∀ (G : mm_ → Prop) (Qtq : qt_), (∀ M', SQp Mx' N M' → G M') → qVL dq n N G Qtq) → Qt 8 Mx') :
    Tr_ wd0 pg0 130 130 [.inr (.inr 1)] M (rv_ Kv) Qt := by
  have hE := TS_E h.1.1
  have hT := h.1.1.1.1
  have ha := ER_a hE
  have h01 := bl01 hE
  have fl := h.1.1.2.2.2.2.2.1
  refine t_130 fun V hV hW => b_130_0 (Tr_mono _) hV hW _ ?_
  refine y_103 hE (fun c => by omega) (fun _ => ?_)
  refine y_105 hE (by omega) (fun hb => bind_n (hS hb)) (fun h12 hE1 => ?_) (fun hb h12 => ?_)
  rotate_left
  · have hsp := SQ_bf hE hb (k := 2) (by decide) QA_rf
    exact hQ hb _ XPb_fl (fun G Qtq hg => j_228r hT hE hb (by decide) hk h12 (by rw [if_neg (by decide)]; exact q_258z hsp.1 hsp.2.1 (hg _ (SQ_P hsp))))
  have H1 := HDR_go h hE1
  have hT1 := H1.1.1.1.1
  have x70 : nX_ M 70 = M 70 := nX_ne (by decide)
  have eS : ∀ dm, vrS (M 70) (M 73) dm a = (tS (M 70) 100 (a + 1)).bind fun a2 => if dm (a + 1) then (tS (M 70) 258 a2).bind fun a3 => (srS (M 70) a3).bind fun a4 => (szS (M 70) (M 73) a4).bind fun a5 => tS (M 70) 259 a5 else none := fun dm => by unfold vrS; rw [gS_e h12, Option.bind_some]
  have toQ : ∀ {G : mm_ → Prop} {Qtq : qt_}, (∀ V' : vv_, Cl_ wd0 (Tr_ wd0 pg0 (dq + 16)) V' (rv_ G) Qtq m_258 → Wk_ V' → Tr_ wd0 pg0 (dq + 16) 233 [.inr (.inr 6)] (nx_ N) (ri_ fun v1 M1 =>
  Tr_ wd0 pg0 (dq + 16) 254 [.inr (.inr 6), .inl n, .inl v1] M1 (rv_ fun M2 =>
   Tr_ wd0 pg0 (dq + 16) 244 [.inr (.inr 6), .inl 58] M2 (rv_ fun M3 =>
    (0 ≤ M3 6 12 ∧ M3 6 12 < 1202) ∧
     Tr_ wd0 pg0 (dq + 16) 241 [.inr (.inr 6)] M3 (ri_ fun v2 M4 =>
     Tr_ wd0 pg0 (dq + 16) 227 [.inr (.inr 6)] M4 (ri_ fun v3 M5 =>
      (if v3 = 0 then c58 dq n v1 (M3 150 (M3 6 12)) v2 V' G Qtq M5 else rv_ G [] M5)) Qtq) Qtq) Qtq) Qtq) Qtq) → qVL dq n N G Qtq := fun hq => j_228t hT hE (by decide) hk h12 (by
    rw [if_neg (by decide)]
    exact t_258 fun V' hV' hW' => b_258_0 (Tr_mono _) hV' hW' _ _ (hq V' hV' hW'))
  have stop : ∀ {G : mm_ → Prop} {Qtq : qt_} {N' : mm_} {V' : vv_} {v1 : Int}, sp_ N' → in9_ N' → G N' → Tr_ wd0 pg0 (dq + 16) 254 [.inr (.inr 6), .inl n, .inl v1] N' (rv_ fun M2 =>
   Tr_ wd0 pg0 (dq + 16) 244 [.inr (.inr 6), .inl 58] M2 (rv_ fun M3 =>
    (0 ≤ M3 6 12 ∧ M3 6 12 < 1202) ∧
     Tr_ wd0 pg0 (dq + 16) 241 [.inr (.inr 6)] M3 (ri_ fun v2 M4 =>
     Tr_ wd0 pg0 (dq + 16) 227 [.inr (.inr 6)] M4 (ri_ fun v3 M5 =>
      (if v3 = 0 then c58 dq n v1 (M3 150 (M3 6 12)) v2 V' G Qtq M5 else rv_ G [] M5)) Qtq) Qtq) Qtq) Qtq := fun hs hi hg => q_254s hs (q_244s hs ⟨hi, q_241s hs hi (q_227s hs (by rw [if_neg (by decide)]; exact rv_i hg))⟩)
  refine y_107 (d := 125) hE1 (fun hb => by rw [x70]; have := hS hb; rw [eS] at this; exact bind_n this) (fun hk1 h13 hE2 => ?_) (fun hb hk1 h13 => ?_) (fun hb hk1 => ?_)
  rotate_left
  · have hsp := SQ_bf hE1 hb (k := 2) (by decide) QA_rf
    exact hQ hb _ (XPb_tr XPb_nX XPb_fl) (fun G Qtq hg => toQ fun V' hV' hW' => j_233r hT1 hE1 hb hk1 h13 (stop hsp.1 hsp.2.1 (hg _ (SQp_tr QPb_nx (SQ_P hsp)))))
  · have hsp := SQ_bf hE1 hb (k := 1) (by decide) QA_rf
    exact hQ hb _ (XPb_tr XPb_nX XPb_fl) (fun G Qtq hg => toQ fun V' hV' hW' => j_233w hT1 hE1 hb hk1 (stop hsp.1 hsp.2.1 (hg _ (SQp_tr QPb_nx (SQ_P hsp)))))
  rw [if_pos rfl]
  have hk1' : M 70 (a + 1) = 100 := by rw [← x70]; exact hk1
  have H2 := HDR_go H1 hE2
  have hT2 := H2.1.1.1.1
  have p2 : PHFx (fun v => v = a + 1) b F F M N (nX_ (nX_ M)) (nx_ (nx_ N)) := PHFx_tr (PHFx_w (PHF_go h (by rw [hk]; decide))) (PHFx_go H1)
  have f2r : ∀ r : Nat, r ≠ 1 → nX_ (nX_ M) r = M r := fun r hr => by rw [nX_ne hr, nX_ne hr]
  have f2q : ∀ r : Nat, r ≠ 6 → nx_ (nx_ N) r = N r := fun r hr => by rw [nx_ne hr, nx_ne hr]
  have f21 : ∀ i : Int, i ≠ 3 → nX_ (nX_ M) 1 i = M 1 i := fun i hi => by rw [nX_1 hi, nX_1 hi]
  have e18 : nX_ (nX_ M) 1 18 = M 1 18 := f21 18 (by decide)
  have hV2 := H2.1.1.1.2.1
  have nm2 : nm9_ (nX_ (nX_ M)) (a + 1) := ⟨gd_c (nX_ne (by decide)) hE1.1, by rw [f2r 70 (by decide)]; exact hk1'⟩
  have d2 : ∀ u, DCL (nX_ (nX_ M)) (M 1 18) u ↔ DCL M (M 1 18) u := fun u => DCL_c (f2r _ (by decide)) (f2r _ (by decide)) (f2r _ (by decide)) (f2r _ (by decide))
  have eS2 : ∀ dm, dm (a + 1) = true → vrS (M 70) (M 73) dm a = (tS (M 70) 258 (a + 1 + 1)).bind fun a3 => (srS (M 70) a3).bind fun a4 => (szS (M 70) (M 73) a4).bind fun a5 => tS (M 70) 259 a5 := fun dm hd => by rw [eS, tS_e hk1' h13, Option.bind_some, if_pos hd]
  have dm1 : b = 1 → DMT M (a + 1) = true := fun hb => by
    have h9 := hS hb
    rw [eS, tS_e hk1' h13, Option.bind_some] at h9
    by_cases c : DMT M (a + 1) = true
    · exact c
    · rw [if_neg c] at h9; exact absurd rfl h9
  have hS2 : b = 1 → ((tS (M 70) 258 (a + 1 + 1)).bind fun a3 => (srS (M 70) a3).bind fun a4 => (szS (M 70) (M 73) a4).bind fun a5 => tS (M 70) 259 a5) ≠ none := fun hb => by rw [← eS2 _ (dm1 hb)]; exact hS hb
  have m8 : nX_ (nX_ M) 1 8 = b := hE2.2.2.2.2.2.2.1
  have n16 : nx_ (nx_ N) 6 16 = b := hE2.2.2.2.2.2.2.2.1
  have main : (b = 0 → n < 8) → V 172 [rr 1, ii 0, ii (a + 1), none, none, none, none] [] (nX_ (nX_ M)) := fun hn8 => by
    obtain ⟨N2, H2', f2, n2e, q254, _⟩ := y_254 (n := n) (t := a + 1) H2 nm2 (fun hb => by rw [e18, f2r 124 (by decide)]; have := hn hb; have := hn8 hb; (clear h hk hn hS hK hQ hE hT ha h01 fl hV hW h12 hE1 H1 hT1 x70 eS toQ stop hk1 h13 hE2 hk1' H2 hT2 p2 f2r f2q f21 e18 hV2 nm2 d2 eS2 dm1 hS2 m8 n16 hn8 hb; omega)) (fun hb => by rw [e18, d2]; exact DMT_D (dm1 hb))
    have toQ2 : ∀ {G : mm_ → Prop} {Qtq : qt_}, (∀ V' : vv_, Cl_ wd0 (Tr_ wd0 pg0 (dq + 16)) V' (rv_ G) Qtq m_258 → Wk_ V' → Tr_ wd0 pg0 (dq + 16) 244 [.inr (.inr 6), .inl 58] (vB_ b N2 n (a + 1)) (rv_ fun M3 =>
    (0 ≤ M3 6 12 ∧ M3 6 12 < 1202) ∧
     Tr_ wd0 pg0 (dq + 16) 241 [.inr (.inr 6)] M3 (ri_ fun v2 M4 =>
     Tr_ wd0 pg0 (dq + 16) 227 [.inr (.inr 6)] M4 (ri_ fun v3 M5 =>
      (if v3 = 0 then c58 dq n (a + 1) (M3 150 (M3 6 12)) v2 V' G Qtq M5 else rv_ G [] M5)) Qtq) Qtq) Qtq) → qVL dq n N G Qtq := fun hq => toQ fun V' hV' hW' => j_233t hT1 hE1 hk1 h13 (q254 _ _ _ (hq V' hV' hW'))
    have hE2' := TS_E H2'.1.1
    have vE2 : ER b F (nX_ (nX_ M)) (vB_ b N2 n (a + 1)) (a + 1 + 1) 0 := ER_vB hE2'
    have vT2 : Tks (nX_ (nX_ M)) (vB_ b N2 n (a + 1)) := Tks_vB H2'.1.1.1.1
    have p2' : PHF b F F M N (nX_ (nX_ M)) N2 := PHFx_on (PHFx_tr p2 (PHFx_w f2.1)) (fun _ v hv => by rw [hv, hE.2.1]; omega) (fun _ v hv => by rw [hv]; exact ONT_c f2.2 f2r e18)
    have qs2 : QPb N (vB_ b N2 n (a + 1)) := QPb_tr (PHF_Q p2') QPb_vB
    have y70 : nX_ (nX_ M) 70 = M 70 := f2r 70 (by decide)
    refine b_130_172 (Tr_mono _) hV hW _ _ _ ?_
    refine y_121 vE2 (by decide) (fun hb => by rw [y70]; exact bind_n (hS2 hb)) (fun k2 h14 _ => ?_) (fun hb k2 h14 => ?_) (fun hb k2 => ?_)
    rotate_left
    · have hsp := SQ_bf vE2 hb (k := 2) (by decide) QA_rf
      exact hQ hb _ (XPb_tr (PHF_X p2) XPb_fl) (fun G Qtq hg => toQ2 fun V' hV' hW' => j_244r vT2 vE2 hb (by decide) k2 h14 ⟨hsp.2.1, q_241s hsp.1 hsp.2.1 (q_227s hsp.1 (by rw [if_neg (by decide)]; exact rv_i (hg _ (SQp_tr qs2 (SQ_P hsp)))))⟩)
    · have hsp := SQ_bf vE2 hb (k := 1) (by decide) QA_rf
      exact hQ hb _ (XPb_tr (PHF_X p2) XPb_fl) (fun G Qtq hg => toQ2 fun V' hV' hW' => j_244w vT2 vE2 hb (by decide) k2 ⟨hsp.2.1, q_241s hsp.1 hsp.2.1 (q_227s hsp.1 (by rw [if_neg (by decide)]; exact rv_i (hg _ (SQp_tr qs2 (SQ_P hsp)))))⟩)
    have k2' : M 70 (a + 1 + 1) = 258 := by rw [← y70]; exact k2
    have hE3 := (ER_go hE2' h14 (by rw [k2]; decide)).1
    have H3 := HDR_go H2' hE3
    have vE3 : ER b F (nX_ (nX_ (nX_ M))) (vB_ b (nx_ N2) n (a + 1)) (a + 1 + 1 + 1) 0 := ER_vB hE3
    have vT3 : Tks (nX_ (nX_ (nX_ M))) (vB_ b (nx_ N2) n (a + 1)) := Tks_vB H3.1.1.1.1
    have p3 : PHF b F F M N (nX_ (nX_ (nX_ M))) (nx_ N2) := PHF_tr p2' (PHF_go H2' (by rw [k2]; decide))
    have qs3 : QPb N (vB_ b (nx_ N2) n (a + 1)) := QPb_tr (PHF_Q p3) QPb_vB
    have z70 : nX_ (nX_ (nX_ M)) 70 = M 70 := by rw [nX_ne (by decide)]; exact y70
    have m13 : nX_ (nX_ (nX_ M)) 1 3 = a + 1 + 1 + 1 := vE3.2.1
    have kq3 := ER_k vT3 vE3
    have p150 : vB_ b (nx_ N2) n (a + 1) 150 (vB_ b (nx_ N2) n (a + 1) 6 12) = M 71 (a + 1 + 1 + 1) := by
      rw [kq3.2.1, nX_ne (by decide), f2r 71 (by decide)]
    have toQ3 : ∀ {G : mm_ → Prop} {Qtq : qt_}, (∀ V' : vv_, Cl_ wd0 (Tr_ wd0 pg0 (dq + 16)) V' (rv_ G) Qtq m_258 → Wk_ V' → Tr_ wd0 pg0 (dq + 16) 241 [.inr (.inr 6)] (vB_ b (nx_ N2) n (a + 1)) (ri_ fun v2 M4 =>
     Tr_ wd0 pg0 (dq + 16) 227 [.inr (.inr 6)] M4 (ri_ fun v3 M5 =>
      (if v3 = 0 then c58 dq n (a + 1) (M 71 (a + 1 + 1 + 1)) v2 V' G Qtq M5 else rv_ G [] M5)) Qtq) Qtq) → qVL dq n N G Qtq := fun hq => toQ2 fun V' hV' hW' => j_244t vT2 vE2 (by decide) k2 h14 (by
      rw [vB_nx, p150]
      exact ⟨kq3.2.2.1, hq V' hV' hW'⟩)
    have hS3 : b = 1 → ((srS (M 70) (a + 1 + 1 + 1)).bind fun a4 => (szS (M 70) (M 73) a4).bind fun a5 => tS (M 70) 259 a5) ≠ none := fun hb => by
      have := hS2 hb; rw [tS_e k2' h14, Option.bind_some] at this; exact this
    refine y_119 vE3 (fun hb => by rw [z70]; exact bind_n (hS3 hb)) (fun s1 s2 h15 _ => ?_) (fun hb s1 s2 h15 => ?_) (fun hb sk => ?_)
    rotate_left
    · have hsp := SQ_bf vE3 hb (k := 2) (by decide) QA_rf
      exact hQ hb _ (XPb_tr (PHF_X p3) XPb_fl) (fun G Qtq hg => toQ3 fun V' hV' hW' => j_241r vT3 vE3 hb ⟨s1, s2⟩ h15 (fun v => q_227s hsp.1 (by rw [if_neg (by decide)]; exact rv_i (hg _ (SQp_tr qs3 (SQ_P hsp))))))
    · have hsp := SQ_bf vE3 hb (k := 1) (by decide) QA_rf
      exact hQ hb _ (XPb_tr (PHF_X p3) XPb_fl) (fun G Qtq hg => toQ3 fun V' hV' hW' => j_241w vT3 vE3 hb sk (q_227s hsp.1 (by rw [if_neg (by decide)]; exact rv_i (hg _ (SQp_tr qs3 (SQ_P hsp))))))
    rw [z70] at s1 s2
    rw [m13, z70]
    have hE4 := (ER_go hE3 h15 (by rw [z70]; (clear h hk hn hS hK hQ hE hT ha h01 fl hV hW h12 hE1 H1 hT1 x70 eS toQ stop hk1 h13 hE2 hk1' H2 hT2 p2 f2r f2q f21 e18 hV2 nm2 d2 eS2 dm1 hS2 m8 n16 hn8 H2' f2 n2e q254 toQ2 hE2' vE2 vT2 p2' qs2 y70 k2 h14 k2' hE3 H3 vE3 vT3 p3 qs3 z70 m13 kq3 p150 toQ3 hS3 h15; omega))).1
    have H4 := HDR_go H3 hE4
    have p4 : PHF b F F M N (nX_ (nX_ (nX_ (nX_ M)))) (nx_ (nx_ N2)) := PHF_tr p3 (PHF_go H3 (by rw [z70]; (clear h hk hn hS hK hQ hE hT ha h01 fl hV hW h12 hE1 H1 hT1 x70 eS toQ stop hk1 h13 hE2 hk1' H2 hT2 p2 f2r f2q f21 e18 hV2 nm2 d2 eS2 dm1 hS2 m8 n16 hn8 H2' f2 n2e q254 toQ2 hE2' vE2 vT2 p2' qs2 y70 k2 h14 k2' hE3 H3 vE3 vT3 p3 qs3 z70 m13 kq3 p150 toQ3 hS3 h15 hE4 H4; omega)))
    have hk4 : srS (M 70) (a + 1 + 1 + 1) = some (a + 1 + 1 + 1 + 1) := by unfold srS; rw [if_pos ⟨s1, s2⟩, gS_e h15]
    have r4 : ∀ r : Nat, r ≠ 1 → nX_ (nX_ (nX_ (nX_ M))) r = M r := fun r hr => by rw [nX_ne hr, nX_ne hr, nX_ne hr, nX_ne hr]
    have i4 : ∀ i : Int, i ≠ 3 → nX_ (nX_ (nX_ (nX_ M))) 1 i = M 1 i := fun i hi => by rw [nX_1 hi, nX_1 hi, nX_1 hi, nX_1 hi]
    have q4 : b = 0 → ∀ r : Nat, r ≠ 6 → nx_ (nx_ N2) r = N r := fun hb r hr => by rw [nx_ne hr, nx_ne hr, n2e hb, f2q r hr]
    have gl : gd_ (nX_ (nX_ (nX_ (nX_ M)))) (a + 1 + 1 + 1) := gd_c (by rw [nX_ne (by decide)]) hE3.1
    have vE4 : ER b F (nX_ (nX_ (nX_ (nX_ M)))) (vB_ b (nx_ (nx_ N2)) n (a + 1)) (a + 1 + 1 + 1 + 1) 0 := ER_vB hE4
    refine y_vr2 (dq := dq) (a := a) (M := M) (N := N) (n := n) (t := a + 1) (s := M 70 (a + 1 + 1 + 1) - 28) (l0 := a + 1 + 1 + 1) hV hW H4 p4 (by rw [hE.2.1]; (clear h hk hn hS hK hQ hE hT ha h01 fl hV hW h12 hE1 H1 hT1 x70 eS toQ stop hk1 h13 hE2 hk1' H2 hT2 p2 f2r f2q f21 e18 hV2 nm2 d2 eS2 dm1 hS2 m8 n16 hn8 H2' f2 n2e q254 toQ2 hE2' vE2 vT2 p2' qs2 y70 k2 h14 k2' hE3 H3 vE3 vT3 p3 qs3 z70 m13 kq3 p150 toQ3 hS3 s1 s2 h15 hE4 H4 p4 hk4 r4 i4 q4 gl vE4; omega)) (by omega) (nm9_r nm2 (by rw [r4 70 (by decide), y70])) (by omega) (fun hb u hu => ?_) (fun hb => ?_) (by (clear h hk hn hS hK hQ hE hT ha h01 fl hV hW h12 hE1 H1 hT1 x70 eS toQ stop hk1 h13 hE2 hk1' H2 hT2 p2 f2r f2q f21 e18 hV2 nm2 d2 eS2 dm1 hS2 m8 n16 hn8 H2' f2 n2e q254 toQ2 hE2' vE2 vT2 p2' qs2 y70 k2 h14 k2' hE3 H3 vE3 vT3 p3 qs3 z70 m13 kq3 p150 toQ3 hS3 h15 hE4 H4 p4 hk4 r4 i4 q4 gl vE4; omega)) (by rw [i4 7 (by decide)]; omega) gl (r4 70 (by decide)) (r4 71 (by decide)) (r4 73 (by decide)) dm1 (fun dm hd => by rw [eS2 dm hd, tS_e k2' h14, Option.bind_some, hk4, Option.bind_some]) (fun hb => by have := hS3 hb; rw [hk4, Option.bind_some] at this; exact this) (fun G Qtq hq => toQ3 fun V' hV' hW' => j_241t vT3 vE3 (by rw [z70]; exact ⟨s1, s2⟩) h15 ?_) hK hQ
    · rw [i4 18 (by decide), DCL_c (r4 _ (by decide)) (r4 _ (by decide)) (r4 _ (by decide)) (r4 _ (by decide))] at hu
      have := h.2.2.1 hb u hu; (clear h hk hn hS hK hQ hE hT ha h01 fl hV hW h12 hE1 H1 hT1 x70 eS toQ stop hk1 h13 hE2 hk1' H2 hT2 p2 f2r f2q f21 e18 hV2 nm2 d2 eS2 dm1 hS2 m8 n16 hn8 H2' f2 n2e q254 toQ2 hE2' vE2 vT2 p2' qs2 y70 k2 h14 k2' hE3 H3 vE3 vT3 p3 qs3 z70 kq3 p150 toQ3 hS3 s1 s2 h15 hE4 H4 p4 hk4 r4 i4 q4 gl vE4 hb hu; omega)
    · rw [i4 18 (by decide), r4 124 (by decide), q4 hb 170 (by decide), r4 126 (by decide)]
      have c := hn hb
      exact ⟨c.1.symm, hn8 hb, c.2, rfl, rfl⟩
    · rw [vB_nx, z70]
      refine q_227g (ER_goq vE4) ?_
      rw [if_pos rfl]
      have := hq V' hV' hW'
      rw [show M 70 (a + 1 + 1 + 1) - 28 + 1 = M 70 (a + 1 + 1 + 1) - 27 by (clear h hk hn hS hK hQ hE hT ha h01 fl hV hW h12 hE1 H1 hT1 x70 eS toQ stop hk1 h13 hE2 hk1' H2 hT2 p2 f2r f2q f21 e18 hV2 nm2 d2 eS2 dm1 hS2 m8 n16 hn8 H2' f2 n2e q254 toQ2 hE2' vE2 vT2 p2' qs2 y70 k2 h14 k2' hE3 H3 vE3 vT3 p3 qs3 z70 m13 kq3 p150 toQ3 hS3 s1 s2 h15 hE4 H4 p4 hk4 r4 i4 q4 gl vE4 hq hV' hW' this; omega)] at this
      exact this
  intro _
  rcases h01 with hb | hb
  · rw [if_pos (by (clear h hk hn hS hK hQ hE hT ha fl hV hW h12 hE1 H1 hT1 x70 eS toQ stop hk1 h13 hE2 hk1' H2 hT2 p2 f2r f2q f21 e18 hV2 nm2 d2 eS2 dm1 hS2 main; lia))]
    refine ⟨hV2.1, by have := hV2.2.2; omega, ?_⟩
    have w24 := hV2.2.2.2.2.1
    by_cases c8 : nX_ (nX_ M) 124 (nX_ (nX_ M) 1 18) = 8
    · rw [if_pos c8]
      refine x_110 (by omega) (by omega) (fun e => absurd e (by decide)) (fun _ => ?_)
      have n8 : n = 8 := by rw [e18, f2r 124 (by decide), (hn hb).1] at c8; exact c8
      have e150 : nx_ (nx_ N) 150 (a + 1) = nX_ (nX_ M) 71 (a + 1) := ((hT2 (a + 1) nm2.1).2.1).symm
      have sp2 : sp_ (bf_ (nx_ (nx_ N)) 2 (nX_ (nX_ M) 71 (a + 1))) := bf_sp (n16.trans hb) (by decide)
      have i2 : in9_ (bf_ (nx_ (nx_ N)) 2 (nX_ (nX_ M) 71 (a + 1))) := by unfold in9_; rw [bf_6 (by decide) (by decide), hE2.2.2.1]; omega
      refine hQ hb _ (XPb_tr (PHF_X p2) XPb_fl) (fun G Qtq hg => toQ fun V' hV' hW' => j_233t hT1 hE1 hk1 h13 ?_)
      refine q_254r (ER_goq hE2) (n16.trans hb) (hE2.2.2.2.2.2.2.2.2.2.1 hb) n8 (by omega) ?_
      rw [e150]
      exact q_244s sp2 ⟨i2, q_241s sp2 i2 (q_227s sp2 (by rw [if_neg (by decide)]; exact rv_i (hg _ ⟨sp2, i2, by unfold bf_ flX_; rw [up_off (by decide), up_at, up_off (by decide), up_at], ⟨by unfold bf_ flX_; rw [up_at, up_at], fl_b7 (by assumption)⟩, QPb_tr (PHF_Q p2) (QF_P bf_QF)⟩)))⟩
    · rw [if_neg c8]
      refine x_110 (by omega) (by omega) (fun _ => main (fun _ => ?_)) (fun e => absurd rfl e)
      rw [e18, f2r 124 (by decide), (hn hb).1] at c8
      rw [e18, f2r 124 (by decide), (hn hb).1] at w24
      (clear h hk hn hS hK hQ hE hT ha fl hV hW h12 hE1 H1 hT1 x70 eS toQ stop hk1 h13 hE2 hk1' H2 hT2 p2 f2r f2q f21 e18 hV2 nm2 d2 eS2 dm1 hS2 m8 n16 main hb; lia)
  · rw [if_neg (by (clear h hk hn hS hK hQ hE hT ha fl hV hW h12 hE1 H1 hT1 x70 eS toQ stop hk1 h13 hE2 hk1' H2 hT2 p2 f2r f2q f21 e18 hV2 nm2 d2 eS2 dm1 hS2 main; lia))]
    exact main (fun hb0 => by (clear h hk hn hS hK hQ hE hT ha fl hV hW h12 hE1 H1 hT1 x70 eS toQ stop hk1 h13 hE2 hk1' H2 hT2 p2 f2r f2q f21 e18 hV2 nm2 d2 eS2 dm1 hS2 m8 main; omega))
end VLv
end T242_vl
section T243_dl
/-! declarations of a process (X 126 V 399 | Q 257) -/
def dlT (κ ν : Int → Int) (dm : Int → Bool) (a : Int) : Option (Int ⊕ Int) := if κ a = 3 then (vrS κ ν dm a).bind fun r => some (.inl r) else if κ a = 4 then (tmS κ dm a).bind fun r => some (.inl r) else some (.inr a)
def DLS (κ ν : Int → Int) (dm : Int → Bool) (a : Int) : Option Int := LPz (dlT κ ν dm) a
section DLs
variable {κ ν : Int → Int} {dm : Int → Bool} {a r : Int}
theorem tmS_s [Inhabited gh_] (h0 : 0 ≤ a) (h1 : a ≤ 1200) (h : tmS κ dm a = some r) : a + 1 ≤ r ∧ r ≤ 1200 := by
  unfold tmS at h
  obtain ⟨x, e1, h⟩ := bind_s h
  have g := gS_s e1
  obtain ⟨y, e2, h⟩ := bind_s h
  have g2 := tS_s e2
  split at h
  · have := tS_s h; (clear e1 e2 h; omega)
  · cases h
theorem vrS_s [Inhabited gh_] (h0 : 0 ≤ a) (h1 : a ≤ 1200) (h : vrS κ ν dm a = some r) : a + 1 ≤ r ∧ r ≤ 1200 := by
  unfold vrS at h
  obtain ⟨x, e1, h⟩ := bind_s h
  have g := gS_s e1
  obtain ⟨y, e2, h⟩ := bind_s h
  have g2 := tS_s e2
  split at h
  · obtain ⟨z, e3, h⟩ := bind_s h
    have g3 := tS_s e3
    obtain ⟨w, e4, h⟩ := bind_s h
    unfold srS at e4
    split at e4
    · have g4 := gS_s e4
      obtain ⟨u, e5, h⟩ := bind_s h
      have g6 := tS_s h
      unfold szS at e5
      split at e5
      · obtain ⟨p, f1, e5⟩ := bind_s e5
        have k1 := gS_s f1
        split at e5
        · obtain ⟨q, f2, e5⟩ := bind_s e5
          have k2 := gS_s f2
          have k3 := tS_s e5
          omega
        · cases e5
      · injection e5 with e5; omega
    · cases e4
  · cases h
theorem dlT_l [Inhabited gh_] (s s' : Int) (h0 : 0 ≤ s) (h1 : s ≤ 1200) (h : dlT κ ν dm s = some (.inl s')) : s + 1 ≤ s' ∧ s' ≤ 1200 := by
  unfold dlT at h
  split at h
  · obtain ⟨x, e, h⟩ := bind_s h
    injection h with h; injection h with h; rw [← h]; exact vrS_s h0 h1 e
  · split at h
    · obtain ⟨x, e, h⟩ := bind_s h
      injection h with h; injection h with h; rw [← h]; exact tmS_s h0 h1 e
    · injection h with h; cases h
theorem DLS_u [Inhabited gh_] (h0 : 0 ≤ a) (h1 : a ≤ 1200) : DLS κ ν dm a = (dlT κ ν dm a).bind (lk8_ (DLS κ ν dm)) := LP_u (step := dlT κ ν dm) (fun s => s) (fun s s' => dlT_l s s') (s := a) h0 h1
theorem dlT_y [Inhabited gh_] {L : Int → Option Int} {X : Option Int} (hX : dlT κ ν dm a = X.bind fun r => some (.inl r)) : (dlT κ ν dm a).bind (lk8_ L) = X.bind L := by
  rw [hX]
  cases X with
  | none => rfl
  | some x => rfl
theorem DLS_3 [Inhabited gh_] (h0 : 0 ≤ a) (h1 : a ≤ 1200) (hk : κ a = 3) : DLS κ ν dm a = (vrS κ ν dm a).bind (DLS κ ν dm) := (DLS_u h0 h1).trans (dlT_y (by unfold dlT; rw [if_pos hk]))
theorem DLS_4 [Inhabited gh_] (h0 : 0 ≤ a) (h1 : a ≤ 1200) (hk : κ a = 4) : DLS κ ν dm a = (tmS κ dm a).bind (DLS κ ν dm) := (DLS_u h0 h1).trans (dlT_y (by unfold dlT; rw [if_neg (by omega), if_pos hk]))
theorem DLS_0 [Inhabited gh_] (h0 : 0 ≤ a) (h1 : a ≤ 1200) (h3 : κ a ≠ 3) (h4 : κ a ≠ 4) : DLS κ ν dm a = some a := by
  have e : dlT κ ν dm a = some (.inr a) := by unfold dlT; rw [if_neg h3, if_neg h4]
  rw [DLS_u h0 h1, e]; rfl
end DLs
def q57 (dq : Nat) (x1 x2 x3 x4 : Int) (N : mm_) (G : mm_ → Prop) (Qt : qt_) : Prop := ∀ V : vv_, Cl_ wd0 (Tr_ wd0 pg0 (dq + 17)) V (rv_ G) Qt m_257 → Wk_ V → V 7 [rr 6, ii x1, ii x2, ii x3, ii x4] [] N
/-- X from START on -/
def z399 (V : vv_) (Qt : qt_) (x1 x2 x3 : Int) (M3 : mm_) : Prop := Tr_ wd0 pg0 130 108 [.inr (.inr 1), .inl 5] M3 (rv_ fun M4 =>
      Tr_ wd0 pg0 130 121 [.inr (.inr 1), .inl 59] M4 (rv_ fun M5 =>
       M5 1 2 = 5 ∧
        M5 1 2 = 5 ∧
        (0 ≤ M5 1 18 ∧ M5 1 18 < 6) ∧
        Tr_ wd0 pg0 130 131 [.inr (.inr 1), .inl ((-1))] (up_ M5 127 (M5 1 18) (M5 5 3)) (rv_ fun M6 =>
        Tr_ wd0 pg0 130 132 [.inr (.inr 1)] M6 (rv_ fun M7 =>
         V 461 [rr 1, ii x1, ii x2, ii x3, none, none, none] [] M7) Qt) Qt) Qt) Qt
section DLt
variable {dq : Nat} {b : Int} {x1 x2 x3 y1 : Int} {Kv : mm_ → Prop} {Qt : qt_} {V : vv_}
theorem q57_s [Inhabited gh_] {N : mm_} {G : mm_ → Prop} {Qtq : qt_} {V' : vv_} {z1 z2 z3 z4 : Int} (hV : Cl_ wd0 (Tr_ wd0 pg0 (dq + 17)) V' (rv_ G) Qtq m_257) (hW : Wk_ V') (hs : sp_ N) (h : G N) : V' 7 [rr 6, ii z1, ii z2, ii z3, ii z4] [] N := by
  refine b_257_7 (Tr_mono _) hV hW _ _ _ _ _ ?_
  by_cases c : z4 = 0
  · rw [if_pos c]; exact rv_i h
  · rw [if_neg c]; exact q_227s hs (by rw [if_neg (by decide)]; exact rv_i h)
theorem l_399 [Inhabited gh_] (hV : Cl_ wd0 (Tr_ wd0 pg0 130) V (rv_ Kv) Qt m_126) (hW : Wk_ V) :
    ∀ (k : Nat) (a F n m : Int) (M N : mm_), 1201 - a ≤ (k : Int) → HDR b F M N a → (b = 0 → M 124 (M 1 18) = n ∧ M 126 (M 1 18) = m ∧ N 170 (M 1 18) ≤ n) → (b = 1 → DLS (M 70) (M 73) (DMT M) a ≠ none) →
    (∀ F' M' N' a', HDR b F' M' N' a' → a ≤ a' → PHF b F F' M N M' N' → (b = 0 → N' 170 = N 170 ∧ N' 170 (M 1 18) ≤ M' 124 (M 1 18)) → (M' 70 a' ≠ 3 ∧ M' 70 a' ≠ 4) → (∀ dm, DOK b dm M M' → DLS (M 70) (M 73) dm a = some a') → (∀ (G : mm_ → Prop) (Qtq : qt_), G N' → q57 dq y1 n m 1 N G Qtq) → z399 V Qt x1 x2 x3 M') →
    (b = 0 → ∀ Mx', XPb M Mx' → (∀ (G : mm_ → Prop) (Qtq : qt_), (∀ M', SQp Mx' N M' → G M') → q57 dq y1 n m 1 N G Qtq) → Qt 8 Mx') →
    V 399 [rr 1, ii x1, ii x2, ii x3, none, none, none] [] M
  | 0, a, F, n, m, M, N, hn, h, _, _, _, _ => by have := ER_a (TS_E h.1.1); omega
  | k + 1, a, F, n, m, M, N, hk, h, hc, hS, hK, hQ => by
    have hE := TS_E h.1.1
    have hT := h.1.1.1.1
    have ha := ER_a hE
    have h01 := bl01 hE
    have go := ER_goq hE
    have w24 := h.1.1.1.2.1.2.2.2.2
    have toQ : ∀ {G : mm_ → Prop} {Qtq : qt_}, (∀ V' : vv_, Cl_ wd0 (Tr_ wd0 pg0 (dq + 17)) V' (rv_ G) Qtq m_257 → Wk_ V' → Tr_ wd0 pg0 (dq + 17) 228 [.inr (.inr 6), .inl 3] N (ri_ fun v2 M2 =>
     (if v2 = 0 then
      Tr_ wd0 pg0 (dq + 17) 228 [.inr (.inr 6), .inl 4] M2 (ri_ fun v3 M3 =>
       (if v3 = 0 then
        V' 7 [rr 6, ii y1, ii n, ii m, ii 0] [] M3
       else
        Tr_ wd0 pg0 (dq + 17) 259 [.inr (.inr 6), .inl m] M3 (rv_ fun M4 =>
         V' 7 [rr 6, ii y1, ii n, ii (w32 (m + 1)), ii 1] [] M4) Qtq)) Qtq
     else
      Tr_ wd0 pg0 (dq + 17) 258 [.inr (.inr 6), .inl n] M2 (rv_ fun M5 =>
       V' 7 [rr 6, ii y1, ii (w32 (n + 1)), ii m, ii 1] [] M5) Qtq)) Qtq) → q57 dq y1 n m 1 N G Qtq := fun hq V' hV' hW' => by
      refine b_257_7 (Tr_mono _) hV' hW' _ _ _ _ _ ?_
      rw [if_neg (by decide)]
      refine q_227g go ?_
      rw [if_pos rfl]
      exact hq V' hV' hW'
    have next : ∀ (F' : Int) (M9 N9 : mm_) (a9 n9 m9 : Int) (S : (Int → Bool) → Option Int), HDR b F' M9 N9 a9 → a + 1 ≤ a9 → PHF b F F' M N M9 N9 → (b = 0 → M9 124 (M 1 18) = n9 ∧ M9 126 (M 1 18) = m9 ∧ N9 170 = N 170 ∧ n ≤ n9) → (∀ dm, DLS (M 70) (M 73) dm a = (S dm).bind (DLS (M 70) (M 73) dm)) → (∀ dm, DOK b dm M M9 → S dm = some a9) → (∀ (G : mm_ → Prop) (Qtq : qt_), q57 dq y1 n9 m9 1 N9 G Qtq → q57 dq y1 n m 1 N G Qtq) → V 399 [rr 1, ii x1, ii x2, ii x3, none, none, none] [] M9 := fun F' M9 N9 a9 n9 m9 S H9 ha9 p9 c9 eS sy q9 => by
      have e18 : M9 1 18 = M 1 18 := p9.1.2.1 18 (by decide)
      have x70 : M9 70 = M 70 := p9.1.1 70 (by decide) (by decide)
      have x73 : M9 73 = M 73 := p9.1.1 73 (by decide) (by decide)
      refine l_399 hV hW k a9 F' n9 m9 M9 N9 (by (clear hV hW h hc hS hK hQ hE hT ha h01 go w24 toQ H9 p9 c9 eS sy q9 e18 x70 x73; omega)) H9 (fun hb => ?_) (fun hb => ?_) (fun F2 M' N' a' H' ha' p' c' h34 sy' hq' => ?_) (fun hb Mx' hx hq => ?_)
      · rw [e18]
        have c := c9 hb
        have d := hc hb
        exact ⟨c.1, c.2.1, by rw [c.2.2.1]; (clear hV hW hk h hc hS hK hQ hE hT ha h01 go w24 toQ H9 ha9 p9 c9 eS sy q9 e18 x70 x73 hb; lia)⟩
      · have h9 := hS hb
        rw [eS, sy _ ⟨fun hb0 => by omega, fun _ => rfl⟩, Option.bind_some] at h9
        rw [x70, x73, DMT_c p9 hb]; exact h9
      · refine hK F2 M' N' a' H' (by omega) (PHF_tr p9 p') (fun hb => ⟨(c' hb).1.trans (c9 hb).2.2.1, by have := (c' hb).2; rw [e18] at this; exact this⟩) h34 (fun dm hd => ?_) (fun G Qtq hg => q9 G Qtq (hq' G Qtq hg))
        have o := DOK_s p9 p' hd
        have e := sy' dm o.2
        rw [x70, x73] at e
        rw [eS, sy dm o.1, Option.bind_some]; exact e
      · exact hQ hb Mx' (XPb_tr (PHF_X p9) hx) (fun G Qtq hg => q9 G Qtq (hq G Qtq fun M' p => hg _ (SQp_tr (PHF_Q p9) p)))
    refine b_126_399 (Tr_mono _) hV hW _ _ _ _ ?_
    refine y_103 hE (fun c3 => ?_) (fun c3 => ?_)
    · rw [if_neg (by decide)]
      have eS : ∀ dm, DLS (M 70) (M 73) dm a = (vrS (M 70) (M 73) dm a).bind (DLS (M 70) (M 73) dm) := fun dm => DLS_3 ha.1 ha.2 c3
      have toI : ∀ (G : mm_ → Prop) (Qtq : qt_), (∀ V' : vv_, Cl_ wd0 (Tr_ wd0 pg0 (dq + 17)) V' (rv_ G) Qtq m_257 → Wk_ V' → qVL dq n N (fun M5 => V' 7 [rr 6, ii y1, ii (w32 (n + 1)), ii m, ii 1] [] M5) Qtq) → q57 dq y1 n m 1 N G Qtq := fun G Qtq hq => toQ fun V' hV' hW' => Tr_ri (hq V' hV' hW') (fun v M2 kk => by
        by_cases c : v = 0
        · rw [if_pos c] at kk; exact kk.elim
        · rw [if_neg c] at kk ⊢; exact kk)
      refine y_130v (dq := dq) (n := n) h c3 (fun hb => ⟨(hc hb).1, (hc hb).2.2⟩) (fun hb => by have := hS hb; rw [eS] at this; exact bind_n this) (fun F' M9 N9 a9 H9 ha9 p9 c9 sy q9 => ?_) (fun hb Mx' hx hq => ?_)
      · refine next F' M9 N9 a9 (w32 (n + 1)) m _ H9 (by omega) p9 (fun hb => ?_) eS sy (fun G Qtq hg => toI G Qtq fun V' hV' hW' => q9 _ _ (hg V' hV' hW'))
        have c := c9 hb
        have d := hc hb
        have w := w24.1
        rw [d.1] at w
        rw [w32_id (x := n + 1) (by (clear hV hW hk h hc hS hK hQ hE hT ha h01 go toQ next c3 eS toI H9 ha9 p9 c9 sy q9 hb c w; omega)) (by (clear hV hW hk h hc hS hK hQ hE hT ha h01 go toQ next c3 eS toI H9 ha9 p9 c9 sy q9 hb c w; omega))]
        exact ⟨c.1, by rw [c.2.1]; exact d.2.1, c.2.2, by (clear hV hW hk h hc hS hK hQ hE hT ha h01 go w24 toQ next c3 eS toI H9 ha9 p9 c9 sy q9 hb c d w; lia)⟩
      · exact hQ hb Mx' hx (fun G Qtq hg => toI G Qtq fun V' hV' hW' => hq _ _ fun M' p => q57_s hV' hW' p.1 (hg _ p))
    rw [if_pos rfl]
    refine y_103 hE (fun c4 => ?_) (fun c4 => ?_)
    · rw [if_neg (by decide)]
      have eS : ∀ dm, DLS (M 70) (M 73) dm a = (tmS (M 70) dm a).bind (DLS (M 70) (M 73) dm) := fun dm => DLS_4 ha.1 ha.2 c4
      have toI : ∀ (G : mm_ → Prop) (Qtq : qt_), (∀ V' : vv_, Cl_ wd0 (Tr_ wd0 pg0 (dq + 17)) V' (rv_ G) Qtq m_257 → Wk_ V' → qTL dq m N (fun M5 => V' 7 [rr 6, ii y1, ii n, ii (w32 (m + 1)), ii 1] [] M5) Qtq) → q57 dq y1 n m 1 N G Qtq := fun G Qtq hq => toQ fun V' hV' hW' => j_228f hT hE (by decide) c3 (by
        rw [if_pos rfl]
        refine Tr_ri (hq V' hV' hW') (fun v M2 kk => ?_)
        by_cases c : v = 0
        · rw [if_pos c] at kk; exact kk.elim
        · rw [if_neg c] at kk ⊢; exact kk)
      refine y_130t (dq := dq) (m := m) h c4 (fun hb => (hc hb).2.1) (fun hb => by have := hS hb; rw [eS] at this; exact bind_n this) (fun F' M9 N9 a9 H9 ha9 p9 c9 sy q9 => ?_) (fun hb Mx' hx hq => ?_)
      · refine next F' M9 N9 a9 n (w32 (m + 1)) _ H9 (by (clear hV hW hk h hc hS hK hQ hE hT ha h01 go w24 toQ next c3 c4 eS toI H9 p9 c9 sy q9; omega)) p9 (fun hb => ?_) eS sy (fun G Qtq hg => toI G Qtq fun V' hV' hW' => q9 _ _ (hg V' hV' hW'))
        have c := c9 hb
        have d := hc hb
        have w := w24.2.1
        rw [d.2.1] at w
        rw [w32_id (x := m + 1) (by omega) (by omega)]
        exact ⟨by rw [c.2.1]; exact d.1, c.1, c.2.2, Int.le_refl _⟩
      · exact hQ hb Mx' hx (fun G Qtq hg => toI G Qtq fun V' hV' hW' => hq _ _ fun M' p => q57_s hV' hW' p.1 (hg _ p))
    rw [if_pos rfl]
    refine hK F M N a h (Int.le_refl _) PHF_rf (fun hb => ⟨rfl, by rw [(hc hb).1]; exact (hc hb).2.2⟩) ⟨c3, c4⟩ (fun dm _ => DLS_0 ha.1 ha.2 c3 c4) (fun G Qtq hg => toQ fun V' hV' hW' => j_228f hT hE (by decide) c3 ?_)
    rw [if_pos rfl]
    refine j_228f hT hE (by decide) c4 ?_
    rw [if_pos rfl]
    refine b_257_7 (Tr_mono _) hV' hW' _ _ _ _ _ ?_
    rw [if_pos rfl]
    exact rv_i hg
end DLt
end T243_dl
