section T363_ou
/-! the run: OUTPUT (X 25 | Q 356) -/
def g4 (N : mm_) : mm_ := up_ (up_ (up_ N 242 0 (N 244 0)) 242 1 (N 244 1)) 242 2 (N 244 2)
section OUa
variable {z : Int} {M N M' N' M1 N1 : mm_} {A : Int → Int} {σ : Int → Int} {k e s x2 v n bp T c c1 c2 f fe op sg to_ r me m rt a b d : Int}
/-- X: up to the ways -/
theorem x_25o [Inhabited fz_] {Qr : qr_} {Qt : qt_} (hn : 0 ≤ n ∧ n ≤ 3) (h46 : M 0 46 = s) (hs : 0 ≤ s ∧ s < 12) (ha : a = if n ≤ 0 then 0 else A 0) (hb : b = if n ≤ 1 then 0 else A 1) (hd : d = if n ≤ 2 then 0 else A 2)
    (h : ∀ V : vv_, Cl_ wd0 (Tr_ wd0 pg0 5) V Qr Qt m_25 → Wk_ V → V 110 [rr 0, ii sg, ii n, ii m, ii rt, ii (M 10 s), ii (M 11 s), ii (if m = 1 then A n else 0), ii a, ii b, ii d, none, none, none, none] [] (exX M A 0)) : Tr_ wd0 pg0 6 25 [.inr (.inr 0), .inl sg, .inl n, .inl m, .inl rt] (exX M A (if m = 1 then n + 1 else n)) Qr Qt := t_25 fun V hV hW => by
  have h66 : ∀ y, V 66 [rr 0, ii sg, ii n, ii m, ii rt, ii (M 10 s), ii (M 11 s), ii (if m = 1 then A n else 0), ii a, none, none, none, none, none, none] [] (exX M A 0) → y = a → V 66 [rr 0, ii sg, ii n, ii m, ii rt, ii (M 10 s), ii (M 11 s), ii (if m = 1 then A n else 0), ii y, none, none, none, none, none, none] [] (exX M A 0) := fun y h e => by rw [e]; exact h
  have h110 := h V hV hW
  have g66 : V 66 [rr 0, ii sg, ii n, ii m, ii rt, ii (M 10 s), ii (M 11 s), ii (if m = 1 then A n else 0), ii a, none, none, none, none, none, none] [] (exX M A 0) := b_25_66 (Tr_mono _) hV hW _ _ _ _ _ _ _ _ _ (by
    rw [exX_45, exX_26, show w32 (0 + 1) = 1 from w32_id (by decide) (by decide), show w32 (0 + 2) = 2 from w32_id (by decide) (by decide)]
    by_cases k1 : n ≤ 1
    · rw [if_pos k1] at hb ⊢
      rw [if_pos (by omega)] at hd ⊢
      rw [hb, hd] at h110; exact h110
    · rw [if_neg k1] at hb ⊢
      refine ⟨by decide, ?_⟩
      by_cases k2 : n ≤ 2
      · rw [if_pos k2] at hd ⊢
        rw [hb, hd] at h110; exact h110
      · rw [if_neg k2] at hd ⊢
        rw [hb, hd] at h110; exact ⟨by decide, h110⟩)
  have g37 : V 37 [rr 0, ii sg, ii n, ii m, ii rt, ii (M 10 s), ii (M 11 s), ii (if m = 1 then A n else 0), none, none, none, none, none, none, none] [] (exX M A n) := b_25_37 (Tr_mono _) hV hW _ _ _ _ _ _ _ _ (by
    rw [exX_45, Int.sub_self, show w32 0 = 0 from w32_id (by decide) (by decide), exX_o, exX_26]
    by_cases k0 : n ≤ 0
    · rw [if_pos k0] at ha ⊢; exact h66 0 g66 ha.symm
    · rw [if_neg k0] at ha ⊢; exact ⟨by decide, h66 _ g66 ha.symm⟩)
  refine b_25_0 (Tr_mono _) hV hW _ _ _ _ _ ?_
  rw [exX_0 (i := 46) (by decide), h46, exX_r (r := 10) (by decide) (by decide), exX_r (r := 11) (by decide) (by decide)]
  refine ⟨hs, hs, ?_⟩
  by_cases k1 : m = 1
  · rw [if_pos k1] at g37 ⊢
    rw [if_pos k1]
    have p18 := x_18 (M := M) (A := A) (n := n + 1) (by omega)
    rw [show n + 1 - 1 = n by omega] at p18
    exact Ex_le (d := 1) (by decide) p18 _ _ (ri_i g37)
  · rw [if_neg k1] at g37 ⊢
    rw [if_neg k1]; exact g37
theorem g4_r [Inhabited fz_] {q : Nat} (h : q ≠ 242) : g4 N q = N q := by unfold g4; rw [up_ne h, up_ne h, up_ne h]
theorem g4_v [Inhabited fz_] : g4 N 242 0 = N 244 0 ∧ g4 N 242 1 = N 244 1 ∧ g4 N 242 2 = N 244 2 := by
  unfold g4
  exact ⟨by rw [upo (by decide), upo (by decide), up_at], by rw [upo (by decide), up_at], by rw [up_at]⟩
theorem QRF_g4 [Inhabited fz_] : QRF N (g4 N) := ⟨fun q hq => g4_r (fun e => hq (by rw [e]; decide)), fun i _ => by rw [g4_r (by decide)]⟩
theorem RU_g4 [Inhabited fz_] (h : RU z M N) : RU z M (g4 N) := RU_2 h (fun q hq => g4_r (fun e => hq (by rw [e]; decide)))
theorem TYA_g4 [Inhabited fz_] (h : TYA N) : TYA (g4 N) := TYA_c h (TYT_Q QRF_g4) (g4_r (by decide))
/-- Q: the values are given -/
theorem q_219 [Inhabited fz_] {V : vv_} {Qr : qr_} {Qt : qt_} (hV : Cl_ wd0 (Tr_ wd0 pg0 5) V Qr Qt m_356) (hW : Wk_ V) {y3 y4 y5 : Int} (hr : 0 ≤ r ∧ r < 10) (g : if to_ = 0 then (if N 161 r < 0 then Tr_ wd0 pg0 5 359 [.inr (.inr 6), .inl r, .inl sg, .inl me, .inl to_] (g4 N) (rv_ fun M2 => Qr [.inl 0] M2) Qt else Tr_ wd0 pg0 5 333 [.inr (.inr 6), .inl 0, .inl sg, .inl me] (g4 N) (rv_ fun M3 => Qr [.inl 0] M3) Qt) else Tr_ wd0 pg0 5 359 [.inr (.inr 6), .inl r, .inl sg, .inl me, .inl to_] (g4 N) (rv_ fun M1 => Qr [.inl 0] M1) Qt) : V 219 [rr 6, ii s, ii k, ii y3, ii y4, ii y5, ii me, ii sg, ii to_, ii r, ii 0] [] N := by
  refine b_356_219 (Tr_mono _) hV hW _ _ _ _ _ _ _ _ _ _ _ ?_
  rw [if_pos (by decide), show w32 (0 + 1) = 1 from w32_id (by decide) (by decide)]
  refine ⟨by decide, by decide, b_356_219 (Tr_mono _) hV hW _ _ _ _ _ _ _ _ _ _ _ ?_⟩
  rw [if_pos (by decide), show w32 (1 + 1) = 2 from w32_id (by decide) (by decide)]
  refine ⟨by decide, by decide, b_356_219 (Tr_mono _) hV hW _ _ _ _ _ _ _ _ _ _ _ ?_⟩
  rw [if_pos (by decide), show w32 (2 + 1) = 3 from w32_id (by decide) (by decide)]
  refine ⟨by decide, by decide, b_356_219 (Tr_mono _) hV hW _ _ _ _ _ _ _ _ _ _ _ ?_⟩
  rw [if_neg (by decide), up_ne (r := 242) (r' := 244) (by decide), up_ne (r := 242) (r' := 244) (by decide), up_ne (r := 242) (r' := 244) (by decide)]
  have e161 : g4 N 161 = N 161 := g4_r (by decide)
  show if to_ = 0 then (0 ≤ r ∧ r < 10) ∧ (if g4 N 161 r < 0 then _ else _) else _
  by_cases c : to_ = 0
  · rw [if_pos c] at g ⊢
    rw [e161]
    by_cases c2 : N 161 r < 0
    · rw [if_pos c2] at g ⊢; exact ⟨hr, g⟩
    · rw [if_neg c2] at g ⊢; exact ⟨hr, g⟩
  · rw [if_neg c] at g ⊢; exact g
/-- values of a signal -/
theorem SGV_g4 [Inhabited fz_] (hs : 0 ≤ sg ∧ sg < 20) (h17 : sg < N 6 17) (hn : n = N 156 sg) (hv : ∀ j, 0 ≤ j → j < n → (N 157 (3 * sg + j) = 2 → BV (N 244 j)) ∧ R32 (N 244 j)) (hz : ∀ j, n ≤ j → 0 ≤ j → j < 3 → N 244 j = 0) : SGV (g4 N) sg (g4 N 242) := by
  have e : ∀ v, 0 ≤ v → v < 3 → g4 N 242 v = N 244 v := fun v v0 v1 => by
    have three : v = 0 ∨ v = 1 ∨ v = 2 := by omega
    rcases three with e | e | e <;> rw [e]
    · exact g4_v.1
    · exact g4_v.2.1
    · exact g4_v.2.2
  refine ⟨.inl ⟨hs.1, hs.2, by rw [g4_r (by decide)]; exact h17⟩, fun _ v v0 v3 v1 v2 => ?_, fun v v0 v1 => ?_⟩
  · rw [g4_r (by decide)] at v1 v2
    rw [e v v0 v3]; exact (hv v v0 (by omega)).1 v2
  · rw [e v v0 v1]
    by_cases c : v < n
    · exact (hv v v0 c).2
    · rw [hz v (by omega) v0 v1]; exact ⟨by decide, by decide⟩
theorem SGV_ev [Inhabited fz_] {x y w u : Int} (h : SGV (g4 N) sg (g4 N 242)) : SGV (g4 (evQ N x y w u)) sg (g4 (evQ N x y w u) 242) := by
  have e : ∀ q : Nat, q ≠ 6 → q ≠ 240 → evQ N x y w u q = N q := EvQ_ev.1
  refine SGV_c h ⟨fun q hq => by rw [g4_r (fun c => by rw [c] at hq; revert hq; decide), g4_r (fun c => by rw [c] at hq; revert hq; decide), e q (fun c => by rw [c] at hq; revert hq; decide) (fun c => by rw [c] at hq; revert hq; decide)], by rw [g4_r (by decide), g4_r (by decide)]; exact EvQ_ev.2 18 (by decide) (by decide), by rw [g4_r (by decide), g4_r (by decide)]; exact EvQ_ev.2 17 (by decide) (by decide)⟩ (fun v v0 v1 => ?_)
  have three : v = 0 ∨ v = 1 ∨ v = 2 := by omega
  have g := g4_v (N := N)
  have g' := g4_v (N := evQ N x y w u)
  rw [e 244 (by decide) (by decide)] at g'
  rcases three with c | c | c <;> rw [c]
  · rw [g'.1, g.1]
  · rw [g'.2.1, g.2.1]
  · rw [g'.2.2, g.2.2]
/-- both send -/
theorem j_snd [Inhabited fz_] {y3 y4 y5 : Int} (h : RU z M N) (hP : PLr M N) (hA : TYA N) (hr : 0 ≤ r ∧ r < N 6 18) (hS : SGV (g4 N) sg (g4 N 242)) (hm : R32 me) (ht : R32 to_) (hv : N 244 0 = a ∧ N 244 1 = b ∧ N 244 2 = d) (hz : to_ = 0 → N 161 r < 0) :
    ∃ M' N', (∀ (Qr : qr_) (Qt : qt_), Qr [] M' → Tr_ wd0 pg0 5 5 [.inr (.inr 0), .inl 1, .inl me, .inl sg, .inl to_] M (rv_ fun M4 => Tr_ wd0 pg0 5 27 [.inr (.inr 0), .inl r, .inl sg, .inl me, .inl to_, .inl a, .inl b, .inl d] M4 (rv_ fun M5 => Qr [] M5) Qt) Qt) ∧ (∀ (V : vv_) (Qr : qr_) (Qt : qt_), Cl_ wd0 (Tr_ wd0 pg0 5) V Qr Qt m_356 → Wk_ V → Qr [.inl 0] N' → Tr_ wd0 pg0 5 324 [.inr (.inr 6), .inl 1, .inl me, .inl sg, .inl to_] N (rv_ fun M3 => V 219 [rr 6, ii s, ii k, ii y3, ii y4, ii y5, ii me, ii sg, ii to_, ii r, ii 0] [] M3) Qt) ∧ RU z M' N' ∧ TYA N' ∧ (XRF M M' ∧ QRF N N') ∧ KAX M M' := by
  have h10 := h.2.1.1
  have b5 := RU_b5 h
  have b3 := RU_b324 h
  have ru := RU_ev (k := 1) (a := me) (s := sg) (b := to_) h
  have e1 : ∀ q : Nat, q ≠ 6 → q ≠ 240 → evQ N 1 me sg to_ q = N q := EvQ_ev.1
  have hP2 : PLr (evX M 1 me sg to_) (g4 (evQ N 1 me sg to_)) := PLr_c hP XRF_ev (QRF_tr QRF_ev QRF_g4)
  have e18 : g4 (evQ N 1 me sg to_) 6 18 = N 6 18 := by rw [g4_r (by decide)]; exact EvQ_ev.2 18 (by decide) (by decide)
  have gv := g4_v (N := evQ N 1 me sg to_)
  rw [e1 244 (by decide) (by decide)] at gv
  obtain ⟨M', N', x1, q1, r1, t1, f1, k1⟩ := j_27 (r := r) (sg := sg) (sn := me) (rc := to_) (a := a) (b := b) (c := d) (RU_g4 ru) hP2 (by rw [e18]; exact hr) ⟨gv.1.trans hv.1, gv.2.1.trans hv.2.1, gv.2.2.trans hv.2.2⟩
  refine ⟨M', N', fun Qr Qt g => Ex_le (d := 1) (by decide) (x_5 b5.1 b5.2.1 b5.2.2) _ _ (rv_i (x1 _ _ (rv_i g))), fun V Qr Qt hV hW g => Ex_le (d := 1) (by decide) (q_324 b3.1 b3.2.1 b3.2.2) _ _ (rv_i (q_219 hV hW (by omega) ?_)), r1, t1 (TYA_g4 (TYA_ev hA)) (SGV_ev hS) hm ht, ⟨XRF_tr XRF_ev f1.1, QRF_tr (QRF_tr QRF_ev QRF_g4) f1.2⟩, KAX_tr KAX_ev k1⟩
  have q1' := Ex_le (d := 4) (d' := 5) (by decide) q1
  by_cases c : to_ = 0
  · rw [if_pos c, e1 161 (by decide) (by decide), if_pos (hz c)]; exact q1' _ _ (rv_i g)
  · rw [if_neg c]; exact q1' _ _ (rv_i g)
end OUa
end T363_ou
section T364_ow
/-! the run: OUTPUT whole (X 24 | Q 350) -/
section OWa
variable {z : Int} {M N M' N' M1 N1 : mm_} {A : Int → Int} {k e s x2 v n bp T c c1 c2 f fe op sg to_ r me m rt a b d : Int} {g p : Int → Int}
theorem rcv_z [Inhabited fz_] : ∀ (d : Nat) (i : Int), (∀ j, i ≤ j → j < i + d → g j ≠ s) → rcv g p s d i = 0
  | 0, _, _ => rfl
  | d + 1, i, h => by
    unfold rcv
    rw [if_neg (h i (Int.le_refl _) (by omega))]
    exact rcv_z d (i + 1) (fun j h0 h1 => h j (by omega) (by omega))
theorem rcv_p [Inhabited fz_] : ∀ (d : Nat) (i : Int), rcv g p s d i = 0 ∨ ∃ j, (i ≤ j ∧ j < i + d) ∧ rcv g p s d i = p j
  | 0, _ => .inl rfl
  | d + 1, i => by
    unfold rcv
    by_cases c : g i = s
    · rw [if_pos c]; exact .inr ⟨i, by omega, rfl⟩
    · rw [if_neg c]
      rcases rcv_p d (i + 1) with h | ⟨j, h, e⟩
      · exact .inl h
      · exact .inr ⟨j, by omega, e⟩
theorem bo_k [Inhabited fz_] (hW : WST z 0 M N s) (hT : M 11 s = T) (q1 : QRF N N1) (ru : RU z M' N') (tA : TYA N') (fr : XRF (exX M A 0) M' ∧ QRF N1 N') (ka : KAX (exX M A 0) M') : WST z 0 M' N' s ∧ M' 11 s = T ∧ (XRF M M' ∧ QRF N N') ∧ M' 0 47 = M 0 47 ∧ M' 0 8 ≤ M 0 8 + 1 := by
  obtain ⟨w1, w2, w3, w4, w5, w6⟩ := hW
  have fX := XRF_tr (XRF_ef (EFX_ex (M := M) (A := A) (n := 0))) fr.1
  have fQ := QRF_tr q1 fr.2
  have e : ∀ i : Int, i ∉ [10, 27, 32, 33, 34, 35, 36, 37] → i ≠ 45 → M' 0 i = M 0 i := fun i h1 h2 => (ka.2 i h1).trans (exX_0 h2)
  exact ⟨⟨ru, PLr_c w2 fX fQ, tA, by rw [e 7 (by decide) (by decide)]; exact w4, by rw [e 46 (by decide) (by decide)]; exact w5, by rw [ka.2 45 (by decide), exX_45]⟩, by rw [ka.1 11 (by decide), exX_r (by decide) (by decide)]; exact hT, ⟨fX, fQ⟩, e 47 (by decide) (by decide), by rw [e 8 (by decide) (by decide)]; omega⟩
theorem q350_2 [Inhabited fz_] (hs : 0 ≤ s ∧ s < 12) (hk : 0 ≤ k ∧ k < 1300) (h203 : N 203 k = 2) (h : Ex_ 6 356 [.inr (.inr 6), .inl s, .inl k] N [.inl v] N') : Ex_ 7 350 [.inr (.inr 6), .inl s, .inl k] N [.inl v] N' := fun Qr Qt g => t_350 fun V hV hW => b_350_0 (Tr_mono _) hV hW _ _ _ (Ex_le (d := 1) (by decide) (q_323 (by omega)) _ _ (ri_i ⟨hk, by
  rw [h203]; simp only [Int.reduceEq, if_true, if_false]
  exact h _ _ (ri_i g)⟩))
/-- Q: the values, then the ways -/
theorem q356_0 [Inhabited fz_] (hs : 0 ≤ s ∧ s < 12) (hk : 0 ≤ k ∧ k < 1300) (q1 : Ex_ 5 355 [.inr (.inr 6), .inl s, .inl k] N [.inl 0] N1) (qv : QVF N N1) (he : N 239 (sB s + 1) = T ∧ N 239 (sB s) = me)
    (h : ∀ (V : vv_) (Qr : qr_) (Qt : qt_), Cl_ wd0 (Tr_ wd0 pg0 5) V Qr Qt m_356 → Wk_ V → Qr [.inl v] N' → (if N 206 k < 0 then (if N 207 k < 0 then Tr_ wd0 pg0 5 357 [.inr (.inr 6), .inl T, .inl 0, .inl (N 205 k), .inl 1] N1 (ri_ fun v3 M3 => V 180 [rr 6, ii s, ii k, ii 0, ii (sB s), ii T, ii me, ii (N 205 k), ii 0, ii v3, none] [] M3) Qt else V 180 [rr 6, ii s, ii k, ii 0, ii (sB s), ii T, ii me, ii (N 205 k), ii 0, ii (N 207 k), none] [] N1) else Tr_ wd0 pg0 5 339 [.inr (.inr 6), .inl s, .inl (N 206 k)] N1 (ri_ fun v4 M4 => if M4 6 149 ≤ 0 then (if v4 = 0 then V 109 [rr 6, ii s, ii k, ii 0, ii (sB s), ii T, ii me, ii (N 205 k), ii v4, ii (N 207 k), ii (-1)] [] M4 else Tr_ wd0 pg0 5 331 [.inr (.inr 6), .inl v4] M4 (ri_ fun v5 M5 => V 109 [rr 6, ii s, ii k, ii 0, ii (sB s), ii T, ii me, ii (N 205 k), ii v4, ii (N 207 k), ii v5] [] M5) Qt) else Qr [.inl (M4 6 149)] M4) Qt)) : Ex_ 6 356 [.inr (.inr 6), .inl s, .inl k] N [.inl v] N' := fun Qr Qt g => t_356 fun V hV hW => b_356_0 (Tr_mono _) hV hW _ _ _ (q1 _ _ (ri_i (by
  have hB : sB s = 2 + 56 * s := rfl
  have qq : ∀ r : Nat, r ≠ 6 → r ≠ 243 → r ≠ 244 → N1 r = N r := qv.1
  rw [if_pos (by decide)]
  refine Ex_le (d := 1) (by decide) (q_323 (by omega)) _ _ (ri_i ?_)
  rw [w32_id (x := sB s + 1) (by omega) (by omega), qq 239 (by decide) (by decide) (by decide), qq 205 (by decide) (by decide) (by decide), qq 206 (by decide) (by decide) (by decide), qq 207 (by decide) (by decide) (by decide), he.1, he.2]
  refine ⟨by omega, by omega, hk, hk, hk, ?_⟩
  have h' := h V Qr Qt hV hW g
  by_cases c : N 206 k < 0
  · rw [if_pos c] at h' ⊢; exact h'
  · rw [if_neg c] at h' ⊢; exact ⟨hk, h'⟩)))
theorem bo_2a [Inhabited fz_] (hW : WST z 0 M N s) (hT : M 11 s = T) (hk : 0 ≤ k ∧ k < 1300) (hc : 0 ≤ c ∧ c ≤ c2 ∧ c2 ≤ 11800) (h203 : N 203 k = 2) (hsg : 0 ≤ N 205 k ∧ N 205 k < 20) (h17 : N 205 k < N 6 17) (h210 : (0 ≤ N 210 k ∧ N 210 k ≤ 3) ∧ N 210 k = N 156 (N 205 k))
    (x1 : ∀ x1, RC 2 m_15 10 [rr 0, ii x1, rr 109, ii c, none, none] M 10 [rr 0, ii x1, rr 109, ii c2, none, none] (exX M A (N 210 k))) (q1 : Ex_ 5 355 [.inr (.inr 6), .inl s, .inl k] N [.inl 0] N1) (qv : QVF N N1) (vs : ∀ j : Int, 0 ≤ j → j < N 210 k → A j = N1 244 j ∧ (N 157 (3 * N 205 k + j) = 2 → BV (A j)) ∧ R32 (A j)) (vz : ∀ j, N 210 k ≤ j → 0 ≤ j → j < 3 → N1 244 j = 0)
    (hm : (m = 0 ∧ N 206 k = -1 ∧ N 207 k = -1) ∨ (m = 2 ∧ N 206 k = -1 ∧ 0 ≤ N 207 k ∧ N 207 k < N 6 18)) (hx : M 109 c2 = 33) (hx1 : M 109 (c2 + 1) = N 205 k) (hx2 : M 109 (c2 + 2) = N 210 k) (hx3 : M 109 (c2 + 3) = m) (hx4 : M 109 (c2 + 4) = N 207 k) : BOD z T bp M N s x2 k c (c2 + 5) := by
  obtain ⟨w1, w2, w3, w4, w5, w6⟩ := id hW
  have n12 := w1.1.1
  have hin := w1.1.2.2.1 s w4.1 w4.2
  have hB : sB s = 2 + 56 * s := rfl
  have qq : ∀ r : Nat, r ≠ 6 → r ≠ 243 → r ≠ 244 → N1 r = N r := qv.1
  have hT0 : 0 ≤ T := by have := hin.2.1.2.1.1; omega
  have ep : N 239 (sB s) = M 10 s := hin.1.1.symm
  have rme : R32 (M 10 s) := by rw [← ep]; exact w3.2.2 _
  have x15 : Ex_ 3 15 [.inr (.inr 0), .inl c] M [.inl c2] (exX M A (N 210 k)) := fun Qr Qt g => x_15s fun V hV hW => x1 c V Qr Qt hV hW (x_15e (by omega) (by rw [exX_r (r := 109) (by decide) (by decide)]; omega) hV hW g)
  have fx2 := EFX_ex (M := M) (A := A) (n := 0)
  have ru2 : RU z (exX M A 0) N1 := RU_ef (RU_qv w1 qv) fx2 EFQ_rf
  have hP2 : PLr (exX M A 0) N1 := PLr_c w2 (XRF_ef fx2) (QRF_qv qv)
  have tA2 := TYA_qv w3 qv
  have e18 : N1 6 18 = N 6 18 := qv.2 18 (by decide) (by decide)
  have m7 : exX M A 0 0 7 = M 0 7 := exX_0 (by decide)
  have m10 : exX M A 0 10 = M 10 := exX_r (by decide) (by decide)
  have m11 : exX M A 0 11 = M 11 := exX_r (by decide) (by decide)
  have m81 : exX M A 0 81 = M 81 := exX_r (by decide) (by decide)
  have hS : SGV (g4 N1) (N 205 k) (g4 N1 242) := SGV_g4 hsg (by rw [qv.2 17 (by decide) (by decide)]; exact h17) (n := N 210 k) (by rw [qq 156 (by decide) (by decide) (by decide)]; exact h210.2) (fun j j0 j1 => by rw [qq 157 (by decide) (by decide) (by decide), ← (vs j j0 j1).1]; exact (vs j j0 j1).2) vz
  -- a, b, d
  have va : N1 244 0 = if N 210 k ≤ 0 then 0 else A 0 := by
    split
    · exact vz 0 (by omega) (by decide) (by decide)
    · exact (vs 0 (by decide) (by omega)).1.symm
  have vb : N1 244 1 = if N 210 k ≤ 1 then 0 else A 1 := by
    split
    · exact vz 1 (by omega) (by decide) (by decide)
    · exact (vs 1 (by decide) (by omega)).1.symm
  have vd : N1 244 2 = if N 210 k ≤ 2 then 0 else A 2 := by
    split
    · exact vz 2 (by omega) (by decide) (by decide)
    · exact (vs 2 (by decide) (by omega)).1.symm
  have m1 : m ≠ 1 := by omega
  -- X: the act
  have x25 : ∀ (Qr : qr_) (Qt : qt_), (∀ V : vv_, Cl_ wd0 (Tr_ wd0 pg0 5) V Qr Qt m_25 → Wk_ V → V 110 [rr 0, ii (N 205 k), ii (N 210 k), ii m, ii (N 207 k), ii (M 10 s), ii T, ii 0, ii (N1 244 0), ii (N1 244 1), ii (N1 244 2), none, none, none, none] [] (exX M A 0)) → Tr_ wd0 pg0 6 25 [.inr (.inr 0), .inl (N 205 k), .inl (N 210 k), .inl m, .inl (N 207 k)] (exX M A (N 210 k)) Qr Qt := fun Qr Qt h => by
    have := x_25o (M := M) (A := A) (s := s) (sg := N 205 k) (m := m) (rt := N 207 k) (Qr := Qr) (Qt := Qt) h210.1 w5 (by omega) va vb vd (fun V hV hW => by rw [if_neg m1, hT]; exact h V hV hW)
    rw [if_neg m1] at this; exact this
  have x24 : ∀ (M2 : mm_), (∀ (Qr : qr_) (Qt : qt_), Qr [] M2 → Tr_ wd0 pg0 6 25 [.inr (.inr 0), .inl (N 205 k), .inl (N 210 k), .inl m, .inl (N 207 k)] (exX M A (N 210 k)) Qr Qt) → RC 7 m_23 17 [rr 0, ii s, ii x2, ii c] M 17 [rr 0, ii s, ii x2, ii (c2 + 5)] M2 := fun M2 h => xw_go (by omega) x15 (fun Qr Qt g => t_24 fun V hV hW => b_24_0 (Tr_mono _) hV hW _ _ ⟨by omega, by
    rw [exX_r (r := 109) (by decide) (by decide), hx]; simp only [Int.reduceEq, if_true, if_false]
    rw [w32_id (x := c2 + 1) (by omega) (by omega), w32_id (x := c2 + 2) (by omega) (by omega), w32_id (x := c2 + 3) (by omega) (by omega), w32_id (x := c2 + 4) (by omega) (by omega), w32_id (x := c2 + 5) (by omega) (by omega), hx1, hx2, hx3, hx4]
    exact ⟨by omega, by omega, by omega, by omega, h _ _ (rv_i g)⟩⟩)
  -- the route
  obtain ⟨v, v0, xv, yv⟩ := j_26 (M := exX M A 0) (N := N1) (T := T) (to_ := -1) (tq := 0) (any := 1) (sg := N 205 k) hP2 hT0 (fun e => absurd e (by decide)) hsg
  have hrr : ∃ r, (r = -1 ∨ (0 ≤ r ∧ r < N 6 18)) ∧ (∀ (V : vv_) (Qr : qr_) (Qt : qt_), Cl_ wd0 (Tr_ wd0 pg0 5) V Qr Qt m_25 → Wk_ V → V 227 [rr 0, ii (N 205 k), ii (N 210 k), ii m, ii (N 207 k), ii (M 10 s), ii T, ii 0, ii (N1 244 0), ii (N1 244 1), ii (N1 244 2), ii r, none, none, none] [] (exX M A 0) → V 110 [rr 0, ii (N 205 k), ii (N 210 k), ii m, ii (N 207 k), ii (M 10 s), ii T, ii 0, ii (N1 244 0), ii (N1 244 1), ii (N1 244 2), none, none, none, none] [] (exX M A 0)) ∧ (∀ (w : Int) (N2 : mm_), (∀ (V : vv_) (Qr : qr_) (Qt : qt_), Cl_ wd0 (Tr_ wd0 pg0 5) V Qr Qt m_356 → Wk_ V → Qr [.inl w] N2 → V 180 [rr 6, ii s, ii k, ii 0, ii (sB s), ii T, ii (M 10 s), ii (N 205 k), ii 0, ii r, none] [] N1) → Ex_ 7 350 [.inr (.inr 6), .inl s, .inl k] N [.inl w] N2) := by
    rcases hm with ⟨e0, e6, e7⟩ | ⟨e0, e6, e7⟩
    · refine ⟨v, by rw [e18] at v0; exact v0, fun V Qr Qt hV hW g => b_25_110 (Tr_mono _) hV hW _ _ _ _ _ _ _ _ _ _ _ ?_, fun w N2 h => q350_2 (by omega) hk h203 (q356_0 (T := T) (me := M 10 s) (by omega) hk q1 qv ⟨by rw [← hT]; exact hin.1.2.1.symm, ep⟩ (fun V Qr Qt hV hW g => ?_))⟩
      · rw [if_neg m1, if_neg (by omega)]
        exact Ex_le (d := 2) (by decide) xv _ _ (ri_i g)
      · rw [if_pos (by omega), if_pos (by omega)]
        exact Ex_le (d := 1) (by decide) yv _ _ (ri_i (h V Qr Qt hV hW g))
    · refine ⟨N 207 k, .inr e7, fun V Qr Qt hV hW g => b_25_110 (Tr_mono _) hV hW _ _ _ _ _ _ _ _ _ _ _ ?_, fun w N2 h => q350_2 (by omega) hk h203 (q356_0 (T := T) (me := M 10 s) (by omega) hk q1 qv ⟨by rw [← hT]; exact hin.1.2.1.symm, ep⟩ (fun V Qr Qt hV hW g => ?_))⟩
      · rw [if_neg m1, if_pos e0]; exact g
      · rw [if_pos (by omega), if_neg (by omega)]
        exact h V Qr Qt hV hW g
  obtain ⟨r, r0, xr, qr⟩ := hrr
  by_cases cr : r = -1
  · -- no way
    have fx3 : EFX M (up_ (exX M A 0) 0 49 3) := EFX_tr fx2 (EFX_up (by decide))
    refine .inr ⟨3, up_ (exX M A 0) 0 49 3, N1, by decide, xw_e2 (by omega) x15 (fun Qr Qt g => t_24 fun V hV hW => b_24_0 (Tr_mono _) hV hW _ _ ⟨by omega, ?_⟩), ⟨up_at, by rw [upo (by decide), exX_0 (by decide)]⟩, qr 3 N1 (fun V Qr Qt hV hW g => b_356_180 (Tr_mono _) hV hW _ _ _ _ _ _ _ _ _ _ ?_), RU_ef (RU_qv w1 qv) fx3 EFQ_rf, tA2, ⟨XRF_ef fx3, QRF_qv qv⟩, by rw [upo (by decide), exX_0 (by decide)], by rw [upo (by decide), exX_0 (by decide)]⟩
    · rw [exX_r (r := 109) (by decide) (by decide), hx]; simp only [Int.reduceEq, if_true, if_false]
      rw [w32_id (x := c2 + 1) (by omega) (by omega), w32_id (x := c2 + 2) (by omega) (by omega), w32_id (x := c2 + 3) (by omega) (by omega), w32_id (x := c2 + 4) (by omega) (by omega), hx1, hx2, hx3, hx4]
      refine ⟨by omega, by omega, by omega, by omega, x25 _ _ fun V' hV' hW' => xr V' _ _ hV' hW' (b_25_227 (Tr_mono _) hV' hW' _ _ _ _ _ _ _ _ _ _ _ _ ?_)⟩
      rw [if_pos cr]
      exact Ex_le (d := 1) (by decide) x_19 _ _ (rf_i (by rw [if_neg (by decide)]; exact g))
    · rw [if_pos (by omega), if_pos (by omega)]; exact g
  · have hr : 0 ≤ r ∧ r < N 6 18 := by omega
    have h10 := w1.2.1.1
    obtain ⟨_, _, g3, _⟩ := RTG_of (r := r) w2 hr
    have e161 : N1 161 = N 161 := qq 161 (by decide) (by decide) (by decide)
    -- the receiver
    generalize hR : rcv (M 11) (M 10) (M 81 (2 * r + 1)) (M 0 7).toNat 0 = R
    have hQ : (if N 161 r < 0 then 0 else rcv (M 11) (M 10) (N 161 r) (M 0 7).toNat 0) = R := by
      rcases g3 with ⟨a1, a2⟩ | ⟨a1, a2⟩
      · rw [if_pos (by omega), ← hR, rcv_z _ _ (fun j j0 j1 => by have := (w1.1.2.2.1 j j0 (by omega)).2.1.2.1.1; omega)]
      · rw [if_neg (by omega), a2]; exact hR
    have q358 := q_358 (s := N 161 r) ru2 (by omega)
    rw [m11, m10, m7, hQ] at q358
    have R32R : R32 R := by
      rw [← hR]
      rcases rcv_p (g := M 11) (p := M 10) (s := M 81 (2 * r + 1)) (M 0 7).toNat 0 with e | ⟨j, hj, e⟩
      · rw [e]; exact ⟨by decide, by decide⟩
      · rw [e, (w1.1.2.2.1 j hj.1 (by omega)).1.1]; exact w3.2.2 _
    have x266 : ∀ (V : vv_) (Qr : qr_) (Qt : qt_), Cl_ wd0 (Tr_ wd0 pg0 5) V Qr Qt m_25 → Wk_ V → V 266 [rr 0, ii (N 205 k), ii (N 210 k), ii m, ii (N 207 k), ii (M 10 s), ii T, ii 0, ii (N1 244 0), ii (N1 244 1), ii (N1 244 2), ii r, ii (M 81 (2 * r + 1)), ii R, ii (-1)] [] (exX M A 0) → V 227 [rr 0, ii (N 205 k), ii (N 210 k), ii m, ii (N 207 k), ii (M 10 s), ii T, ii 0, ii (N1 244 0), ii (N1 244 1), ii (N1 244 2), ii r, none, none, none] [] (exX M A 0) := fun V Qr Qt hV hW g => b_25_227 (Tr_mono _) hV hW _ _ _ _ _ _ _ _ _ _ _ _ (by
      rw [if_neg cr, w32_id (x := 2 * r) (by omega) (by omega), w32_id (x := 2 * r + 1) (by omega) (by omega), m81, m7, w32_id (x := M 0 7 - 1) (by omega) (by omega)]
      refine ⟨by omega, ?_⟩
      have := x_266 (s := M 81 (2 * r + 1)) ru2 hV hW (by rw [m11, m10, m7, hR]; exact g) (M 0 7).toNat (M 0 7 - 1) 0 (by omega) (by rw [m7]; omega)
      exact this)
    by_cases cl : R = 0 ∧ ¬ N 161 r < 0
    · -- nobody
      have b5 := RU_b5 ru2
      have b3 := RU_b324 ru2
      have ru3 := RU_ev (k := 1) (a := M 10 s) (s := N 205 k) (b := 0) ru2
      have ru4 := RU_g4 ru3
      have e1 : ∀ q : Nat, q ≠ 6 → q ≠ 240 → evQ N1 1 (M 10 s) (N 205 k) 0 q = N1 q := EvQ_ev.1
      have bk := bo_k (M' := loX (evX (exX M A 0) 1 (M 10 s) (N 205 k) 0) 0 (N 205 k) (M 10 s)) (N' := loQ (g4 (evQ N1 1 (M 10 s) (N 205 k) 0)) 0 (N 205 k) (M 10 s)) hW hT (QRF_qv qv) (RU_lo ru4) (TYA_lo (TYA_g4 (TYA_ev tA2))) ⟨XRF_tr XRF_ev XRF_lo, QRF_tr (QRF_tr QRF_ev QRF_g4) QRF_lo⟩ (KAX_tr KAX_ev KAX_lo)
      refine .inl ⟨_, _, x24 _ (fun Qr Qt g => x25 Qr Qt fun V hV hW => xr V Qr Qt hV hW (x266 V Qr Qt hV hW (b_25_266 (Tr_mono _) hV hW _ _ _ _ _ _ _ _ _ _ _ _ _ _ _ ?_))), qr 0 _ (fun V Qr Qt hV hW g => b_356_180 (Tr_mono _) hV hW _ _ _ _ _ _ _ _ _ _ ?_), bk⟩
      · rw [if_pos (by decide), cl.1]
        refine Ex_le (d := 1) (by decide) (x_5 b5.1 b5.2.1 b5.2.2) _ _ (rv_i ?_)
        rw [if_pos rfl, if_neg (by omega)]
        exact Ex_le (d := 2) (by decide) (x_7 ru3) _ _ (rv_i g)
      · rw [if_neg (by omega), e161]
        refine ⟨by omega, Ex_le (d := 2) (by decide) q358 _ _ (ri_i ?_)⟩
        rw [if_neg (by omega), cl.1]
        refine Ex_le (d := 1) (by decide) (q_324 b3.1 b3.2.1 b3.2.2) _ _ (rv_i (q_219 hV hW (by omega) ?_))
        rw [if_pos rfl, e1 161 (by decide) (by decide), e161, if_neg cl.2]
        exact Ex_le (d := 2) (by decide) (q_333 ru4) _ _ (rv_i g)
    · obtain ⟨M', N', xs, qs, ru', tA', fr', ka'⟩ := j_snd (s := s) (k := k) (y3 := 0) (y4 := sB s) (y5 := T) (r := r) (sg := N 205 k) (me := M 10 s) (to_ := R) ru2 hP2 tA2 (by rw [e18]; exact hr) hS rme R32R ⟨rfl, rfl, rfl⟩ (fun e => by rw [e161]; by_cases c9 : N 161 r < 0; exact c9; exact absurd ⟨e, c9⟩ cl)
      have bk := bo_k hW hT (QRF_qv qv) ru' tA' fr' ka'
      refine .inl ⟨M', N', x24 _ (fun Qr Qt g => x25 Qr Qt fun V hV hW => xr V Qr Qt hV hW (x266 V Qr Qt hV hW (b_25_266 (Tr_mono _) hV hW _ _ _ _ _ _ _ _ _ _ _ _ _ _ _ ?_))), qr 0 _ (fun V Qr Qt hV hW g => b_356_180 (Tr_mono _) hV hW _ _ _ _ _ _ _ _ _ _ ?_), bk⟩
      · rw [if_pos (by decide)]
        have xs' := xs Qr Qt g
        by_cases c0 : R = 0
        · have : M 81 (2 * r + 1) = -2 := by
            rcases g3 with ⟨a1, a2⟩ | ⟨a1, a2⟩
            · exact a1
            · exact absurd ⟨c0, by omega⟩ cl
          refine Tr_mono _ _ _ _ _ _ _ _ ?_ (fun _ _ h => h) xs'
          intro vs' M9 h9
          exact ⟨h9.1, by dsimp only; rw [if_pos c0, if_pos this]; exact h9.2⟩
        · refine Tr_mono _ _ _ _ _ _ _ _ ?_ (fun _ _ h => h) xs'
          intro vs' M9 h9
          exact ⟨h9.1, by dsimp only; rw [if_neg c0]; exact h9.2⟩
      · rw [if_neg (by omega), e161]
        refine ⟨by omega, Ex_le (d := 2) (by decide) q358 _ _ (ri_i ?_)⟩
        rw [if_neg (by omega)]
        exact qs V Qr Qt hV hW g
end OWa
end T364_ow
section T365_ot
/-! the run: OUTPUT .. TO (X 24 | Q 350) -/
section OTa
variable {z : Int} {M N M' N' M1 N1 : mm_} {A : Int → Int} {k e s x2 v n bp T c c1 c2 f fe op sg to_ r me m rt a b d : Int}
theorem bo_2b [Inhabited fz_] (hW : WST z 0 M N s) (hT : M 11 s = T) (hk : 0 ≤ k ∧ k < 1300) (hc : 0 ≤ c ∧ c ≤ c2 ∧ c2 ≤ 11800) (h203 : N 203 k = 2) (hsg : 0 ≤ N 205 k ∧ N 205 k < 20) (h17 : N 205 k < N 6 17) (h210 : (0 ≤ N 210 k ∧ N 210 k ≤ 3) ∧ N 210 k = N 156 (N 205 k))
    (x1 : ∀ x1, RC 2 m_15 10 [rr 0, ii x1, rr 109, ii c, none, none] M 10 [rr 0, ii x1, rr 109, ii c1, none, none] (exX M A (N 210 k))) (q1 : Ex_ 5 355 [.inr (.inr 6), .inl s, .inl k] N [.inl 0] N1) (qv : QVF N N1) (vs : ∀ j : Int, 0 ≤ j → j < N 210 k → A j = N1 244 j ∧ (N 157 (3 * N 205 k + j) = 2 → BV (A j)) ∧ R32 (A j)) (vz : ∀ j, N 210 k ≤ j → 0 ≤ j → j < 3 → N1 244 j = 0)
    (hfe : fe ≤ 2900) (h206 : 0 ≤ N 206 k) (hE : EXP (swc M) (tbN N) T c1 c2 (N 206 k) fe 3) (hx : M 109 c2 = 33) (hx1 : M 109 (c2 + 1) = N 205 k) (hx2 : M 109 (c2 + 2) = N 210 k) (hx3 : M 109 (c2 + 3) = 1) (hx4 : M 109 (c2 + 4) = N 207 k) : BOD z T bp M N s x2 k c (c2 + 5) := by
  obtain ⟨w1, w2, w3, w4, w5, w6⟩ := id hW
  have n12 := w1.1.1
  have hin := w1.1.2.2.1 s w4.1 w4.2
  have hB : sB s = 2 + 56 * s := rfl
  have qq : ∀ r : Nat, r ≠ 6 → r ≠ 243 → r ≠ 244 → N1 r = N r := qv.1
  have hT0 : 0 ≤ T := by have := hin.2.1.2.1.1; omega
  have ep : N 239 (sB s) = M 10 s := hin.1.1.symm
  have e1T : N 239 (sB s + 1) = T := by rw [← hT]; exact hin.1.2.1.symm
  have rme : R32 (M 10 s) := by rw [← ep]; exact w3.2.2 _
  have hW1 := WST_qv hW qv
  have ev := EVC_of hW1.1 hW1.2.1 hW1.2.2.1 hW1.2.2.2.1 hW1.2.2.2.2.1
  rw [hT] at ev
  have tb : tbN N1 = tbN N := tbN_e (QRF_qv qv)
  have q356 : ∀ (w : Int) (N3 : mm_), (∀ (V : vv_) (Qr : qr_) (Qt : qt_), Cl_ wd0 (Tr_ wd0 pg0 5) V Qr Qt m_356 → Wk_ V → Qr [.inl w] N3 → Tr_ wd0 pg0 5 339 [.inr (.inr 6), .inl s, .inl (N 206 k)] N1 (ri_ fun v4 M4 => if M4 6 149 ≤ 0 then (if v4 = 0 then V 109 [rr 6, ii s, ii k, ii 0, ii (sB s), ii T, ii (M 10 s), ii (N 205 k), ii v4, ii (N 207 k), ii (-1)] [] M4 else Tr_ wd0 pg0 5 331 [.inr (.inr 6), .inl v4] M4 (ri_ fun v5 M5 => V 109 [rr 6, ii s, ii k, ii 0, ii (sB s), ii T, ii (M 10 s), ii (N 205 k), ii v4, ii (N 207 k), ii v5] [] M5) Qt) else Qr [.inl (M4 6 149)] M4) Qt) → Ex_ 7 350 [.inr (.inr 6), .inl s, .inl k] N [.inl w] N3 := fun w N3 h => q350_2 (by omega) hk h203 (q356_0 (by omega) hk q1 qv ⟨e1T, ep⟩ (fun V Qr Qt hV hW g => by rw [if_neg (by omega)]; exact h V Qr Qt hV hW g))
  rcases ev_e (p := N 210 k) (A := A) (c := c1) (c' := c2) (f := N 206 k) (fe := fe) (t := 3) ev (by rw [tb]; exact hE) (by omega) (by omega) hfe with ⟨A2, B2, to_, y1, y2, y3, y4, y5⟩ | ⟨e, A2, n2, B2, m2, v, he, y1, y2⟩
  · have x15 : Ex_ 3 15 [.inr (.inr 0), .inl c] M [.inl c2] (exX M A2 (N 210 k + 1)) := fun Qr Qt g => x_15s fun V hV hW => x1 c V Qr Qt hV hW (y1 c V Qr Qt hV hW (x_15e (by omega) (by rw [exX_r (r := 109) (by decide) (by decide)]; omega) hV hW g))
    have fx2 := EFX_ex (M := M) (A := A2) (n := 0)
    generalize hN2 : exQ N1 B2 1 0 = N2 at y2
    have fq2 : EFQ N1 N2 := by rw [← hN2]; exact EFQ_ex
    have e149 : N2 6 149 = 0 := by rw [← hN2]; exact exQ_149
    have ru2 : RU z (exX M A2 0) N2 := RU_ef (RU_qv w1 qv) fx2 fq2
    have qrf2 : QRF N N2 := QRF_tr (QRF_qv qv) (QRF_ef fq2)
    have hP2 : PLr (exX M A2 0) N2 := PLr_c w2 (XRF_ef fx2) qrf2
    have tA2 : TYA N2 := TYA_ef (TYA_qv w3 qv) fq2
    have e18 : N2 6 18 = N 6 18 := by rw [fq2.2 18 (by decide) (by decide), qv.2 18 (by decide) (by decide)]
    have q2 : ∀ r : Nat, r ≠ 6 → r ≠ 243 → r ≠ 244 → N2 r = N r := fun r h1 h2 h3 => (fq2.1 r h1 h2).trans (qq r h1 h2 h3)
    have q244 : N2 244 = N1 244 := fq2.1 244 (by decide) (by decide)
    have m7 : exX M A2 0 0 7 = M 0 7 := exX_0 (by decide)
    have m10 : exX M A2 0 10 = M 10 := exX_r (by decide) (by decide)
    have m11 : exX M A2 0 11 = M 11 := exX_r (by decide) (by decide)
    have av : ∀ j : Int, 0 ≤ j → j < N 210 k → A2 j = N2 244 j ∧ (N 157 (3 * N 205 k + j) = 2 → BV (N2 244 j)) ∧ R32 (N2 244 j) := fun j j0 j1 => by
      have := vs j j0 j1
      rw [q244, ← this.1, y5 j j1]; exact ⟨rfl, this.2⟩
    have hS : SGV (g4 N2) (N 205 k) (g4 N2 242) := SGV_g4 hsg (by rw [fq2.2 17 (by decide) (by decide), qv.2 17 (by decide) (by decide)]; exact h17) (n := N 210 k) (by rw [q2 156 (by decide) (by decide) (by decide)]; exact h210.2) (fun j j0 j1 => by rw [q2 157 (by decide) (by decide) (by decide)]; exact (av j j0 j1).2) (fun j h1 h2 h3 => by rw [q244]; exact vz j h1 h2 h3)
    have va : N2 244 0 = if N 210 k ≤ 0 then 0 else A2 0 := by
      split
      · rw [q244]; exact vz 0 (by omega) (by decide) (by decide)
      · exact (av 0 (by decide) (by omega)).1.symm
    have vb : N2 244 1 = if N 210 k ≤ 1 then 0 else A2 1 := by
      split
      · rw [q244]; exact vz 1 (by omega) (by decide) (by decide)
      · exact (av 1 (by decide) (by omega)).1.symm
    have vd : N2 244 2 = if N 210 k ≤ 2 then 0 else A2 2 := by
      split
      · rw [q244]; exact vz 2 (by omega) (by decide) (by decide)
      · exact (av 2 (by decide) (by omega)).1.symm
    have x25 : ∀ (Qr : qr_) (Qt : qt_), (∀ V : vv_, Cl_ wd0 (Tr_ wd0 pg0 5) V Qr Qt m_25 → Wk_ V → V 110 [rr 0, ii (N 205 k), ii (N 210 k), ii 1, ii (N 207 k), ii (M 10 s), ii T, ii to_, ii (N2 244 0), ii (N2 244 1), ii (N2 244 2), none, none, none, none] [] (exX M A2 0)) → Tr_ wd0 pg0 6 25 [.inr (.inr 0), .inl (N 205 k), .inl (N 210 k), .inl 1, .inl (N 207 k)] (exX M A2 (N 210 k + 1)) Qr Qt := fun Qr Qt h => by
      have := x_25o (M := M) (A := A2) (s := s) (sg := N 205 k) (m := 1) (rt := N 207 k) (Qr := Qr) (Qt := Qt) h210.1 w5 (by omega) va vb vd (fun V hV hW => by rw [if_pos rfl, hT, y3]; exact h V hV hW)
      rw [if_pos rfl] at this; exact this
    have x24 : ∀ (M2 : mm_), (∀ (Qr : qr_) (Qt : qt_), Qr [] M2 → Tr_ wd0 pg0 6 25 [.inr (.inr 0), .inl (N 205 k), .inl (N 210 k), .inl 1, .inl (N 207 k)] (exX M A2 (N 210 k + 1)) Qr Qt) → RC 7 m_23 17 [rr 0, ii s, ii x2, ii c] M 17 [rr 0, ii s, ii x2, ii (c2 + 5)] M2 := fun M2 h => xw_go (by omega) x15 (fun Qr Qt g => t_24 fun V hV hW => b_24_0 (Tr_mono _) hV hW _ _ ⟨by omega, by
      rw [exX_r (r := 109) (by decide) (by decide), hx]; simp only [Int.reduceEq, if_true, if_false]
      rw [w32_id (x := c2 + 1) (by omega) (by omega), w32_id (x := c2 + 2) (by omega) (by omega), w32_id (x := c2 + 3) (by omega) (by omega), w32_id (x := c2 + 4) (by omega) (by omega), w32_id (x := c2 + 5) (by omega) (by omega), hx1, hx2, hx3, hx4]
      exact ⟨by omega, by omega, by omega, by omega, h _ _ (rv_i g)⟩⟩)
    -- the slot
    obtain ⟨nn, n1, n2', n3, n4, n5⟩ := RU_n ru2
    have x6 := x_6 (M := exX M A2 0) (p := to_) n1 n3
    have q31 := q_331 (N := N2) (p := to_) n2' n3
    have es := slQ_e (p := to_) ru2
    unfold slQ at es
    rw [n5, n4] at es
    rw [es] at q31
    generalize hS9 : fi_ (exX M A2 0 10) to_ nn 0 = S at x6 q31
    have sr : S = -1 ∨ (0 ≤ S ∧ S < M 0 7 ∧ M 10 S = to_) := by
      have := fi_rg (g := exX M A2 0 10) (v := to_) (n := nn)
      rw [hS9, m10] at this
      rw [m7] at n1
      omega
    have b5 := RU_b5 ru2
    have b3 := RU_b324 ru2
    have q109 : ∀ (w : Int) (N3 : mm_), (∀ (V : vv_) (Qr : qr_) (Qt : qt_), Cl_ wd0 (Tr_ wd0 pg0 5) V Qr Qt m_356 → Wk_ V → Qr [.inl w] N3 → V 109 [rr 6, ii s, ii k, ii 0, ii (sB s), ii T, ii (M 10 s), ii (N 205 k), ii to_, ii (N 207 k), ii S] [] N2) → Ex_ 7 350 [.inr (.inr 6), .inl s, .inl k] N [.inl w] N3 := fun w N3 h => q356 w N3 (fun V Qr Qt hV hW g => Ex_le (d := 4) (by decide) y2 _ _ (ri_i (by
      have h' := h V Qr Qt hV hW g
      rw [e149, if_pos (by decide)]
      by_cases c0 : to_ = 0
      · have : S = -1 := by
          rcases sr with h | ⟨h1, h2, h3⟩
          · exact h
          · have := (w1.1.2.2.1 S h1 h2).2.1.1.1; omega
        rw [if_pos c0]; rw [this] at h'; exact h'
      · rw [if_neg c0]
        exact Ex_le (d := 2) (by decide) q31 _ _ (ri_i h'))))
    rcases sr with cs | ⟨s0, s1, s2⟩
    · -- nobody of that pid
      have ru3 := RU_ev (k := 1) (a := M 10 s) (s := N 205 k) (b := to_) ru2
      have bk := bo_k (M' := loX (evX (exX M A2 0) 1 (M 10 s) (N 205 k) to_) to_ (N 205 k) (M 10 s)) (N' := loQ (evQ N2 1 (M 10 s) (N 205 k) to_) to_ (N 205 k) (M 10 s)) hW hT qrf2 (RU_lo ru3) (TYA_lo (TYA_ev tA2)) ⟨XRF_tr XRF_ev XRF_lo, QRF_tr QRF_ev QRF_lo⟩ (KAX_tr KAX_ev KAX_lo)
      refine .inl ⟨_, _, x24 _ (fun Qr Qt g => x25 Qr Qt fun V hV hW => b_25_110 (Tr_mono _) hV hW _ _ _ _ _ _ _ _ _ _ _ ?_), q109 0 _ (fun V Qr Qt hV hW g => b_356_109 (Tr_mono _) hV hW _ _ _ _ _ _ _ _ _ _ _ ?_), bk⟩
      · rw [if_pos rfl]
        refine Ex_le (d := 1) (by decide) x6 _ _ (ri_i ?_)
        rw [if_pos cs]
        exact Ex_le (d := 1) (by decide) (x_5 b5.1 b5.2.1 b5.2.2) _ _ (rv_i (Ex_le (d := 2) (by decide) (x_7 ru3) _ _ (rv_i g)))
      · rw [if_pos (by omega)]
        exact Ex_le (d := 1) (by decide) (q_324 b3.1 b3.2.1 b3.2.2) _ _ (rv_i (Ex_le (d := 2) (by decide) (q_333 ru3) _ _ (rv_i g)))
    · have hBS : sB S = 2 + 56 * S := rfl
      have hinS := w1.1.2.2.1 S s0 s1
      have t0 := hinS.2.1.2.1.1
      have eqS : N2 239 (sB S + 1) = M 11 S := by rw [q2 239 (by decide) (by decide) (by decide)]; exact hinS.1.2.1.symm
      have tp := hinS.2.1.1.1
      obtain ⟨r, r0, xv, yv⟩ := j_26 (M := exX M A2 0) (N := N2) (T := T) (to_ := M 11 S) (tq := M 11 S) (any := 0) (sg := N 205 k) hP2 hT0 (fun _ => ⟨t0, rfl⟩) hsg
      rw [e18] at r0
      have x110 : ∀ (V : vv_) (Qr : qr_) (Qt : qt_), Cl_ wd0 (Tr_ wd0 pg0 5) V Qr Qt m_25 → Wk_ V → (if r = -1 then Tr_ wd0 pg0 5 19 [.inr (.inr 0), .inl 3] (exX M A2 0) (rf_r fun v4 M6 => if v4 = 1999 then False else Qt v4 M6) Qt else Tr_ wd0 pg0 5 5 [.inr (.inr 0), .inl 1, .inl (M 10 s), .inl (N 205 k), .inl to_] (exX M A2 0) (rv_ fun M4 => Tr_ wd0 pg0 5 27 [.inr (.inr 0), .inl r, .inl (N 205 k), .inl (M 10 s), .inl to_, .inl (N2 244 0), .inl (N2 244 1), .inl (N2 244 2)] M4 (rv_ fun M5 => Qr [] M5) Qt) Qt) → V 110 [rr 0, ii (N 205 k), ii (N 210 k), ii 1, ii (N 207 k), ii (M 10 s), ii T, ii to_, ii (N2 244 0), ii (N2 244 1), ii (N2 244 2), none, none, none, none] [] (exX M A2 0) := fun V Qr Qt hV hW g => b_25_110 (Tr_mono _) hV hW _ _ _ _ _ _ _ _ _ _ _ (by
        rw [if_pos rfl]
        refine Ex_le (d := 1) (by decide) x6 _ _ (ri_i ?_)
        rw [if_neg (by omega), m11]
        exact ⟨by omega, Ex_le (d := 2) (by decide) xv _ _ (ri_i g)⟩)
      have qq9 : ∀ (w : Int) (N3 : mm_), (∀ (V : vv_) (Qr : qr_) (Qt : qt_), Cl_ wd0 (Tr_ wd0 pg0 5) V Qr Qt m_356 → Wk_ V → Qr [.inl w] N3 → (if r < 0 then Qr [.inl 3] N2 else Tr_ wd0 pg0 5 324 [.inr (.inr 6), .inl 1, .inl (M 10 s), .inl (N 205 k), .inl to_] N2 (rv_ fun M3 => V 219 [rr 6, ii s, ii k, ii 0, ii (sB s), ii T, ii (M 10 s), ii (N 205 k), ii to_, ii r, ii 0] [] M3) Qt)) → Ex_ 7 350 [.inr (.inr 6), .inl s, .inl k] N [.inl w] N3 := fun w N3 h => q109 w N3 (fun V Qr Qt hV hW g => b_356_109 (Tr_mono _) hV hW _ _ _ _ _ _ _ _ _ _ _ (by
        rw [if_neg (by omega)]
        refine Ex_le (d := 1) (by decide) (q_323 (by omega)) _ _ (ri_i ?_)
        rw [w32_id (x := sB S + 1) (by omega) (by omega), eqS]
        exact ⟨by omega, Ex_le (d := 1) (by decide) yv _ _ (ri_i (h V Qr Qt hV hW g))⟩))
      by_cases cr : r = -1
      · have fx3 : EFX M (up_ (exX M A2 0) 0 49 3) := EFX_tr fx2 (EFX_up (by decide))
        refine .inr ⟨3, up_ (exX M A2 0) 0 49 3, N2, by decide, xw_e2 (by omega) x15 (fun Qr Qt g => t_24 fun V hV hW => b_24_0 (Tr_mono _) hV hW _ _ ⟨by omega, ?_⟩), ⟨up_at, by rw [upo (by decide), exX_0 (by decide)]⟩, qq9 3 N2 (fun V Qr Qt hV hW g => by rw [if_pos (by omega)]; exact g), RU_ef (RU_qv w1 qv) fx3 fq2, tA2, ⟨XRF_ef fx3, qrf2⟩, by rw [upo (by decide), exX_0 (by decide)], by rw [upo (by decide), exX_0 (by decide)]⟩
        rw [exX_r (r := 109) (by decide) (by decide), hx]; simp only [Int.reduceEq, if_true, if_false]
        rw [w32_id (x := c2 + 1) (by omega) (by omega), w32_id (x := c2 + 2) (by omega) (by omega), w32_id (x := c2 + 3) (by omega) (by omega), w32_id (x := c2 + 4) (by omega) (by omega), hx1, hx2, hx3, hx4]
        refine ⟨by omega, by omega, by omega, by omega, x25 _ _ fun V' hV' hW' => x110 V' _ _ hV' hW' ?_⟩
        rw [if_pos cr]
        exact Ex_le (d := 1) (by decide) x_19 _ _ (rf_i (by rw [if_neg (by decide)]; exact g))
      · obtain ⟨M', N', xs, qs, ru', tA', fr', ka'⟩ := j_snd (s := s) (k := k) (y3 := 0) (y4 := sB s) (y5 := T) (r := r) (sg := N 205 k) (me := M 10 s) (to_ := to_) ru2 hP2 tA2 (by rw [e18]; omega) hS rme y4.2 ⟨rfl, rfl, rfl⟩ (fun e => by omega)
        have bk := bo_k hW hT qrf2 ru' tA' fr' ka'
        exact .inl ⟨M', N', x24 _ (fun Qr Qt g => x25 Qr Qt fun V hV hW => x110 V Qr Qt hV hW (by rw [if_neg cr]; exact xs Qr Qt g)), qq9 0 _ (fun V Qr Qt hV hW g => by rw [if_neg (by omega)]; exact qs V Qr Qt hV hW g), bk⟩
  · have fx3 : EFX M (up_ (exX M A2 n2) 0 49 e) := EFX_tr EFX_ex (EFX_up (by decide))
    have fq3 : EFQ N1 (exQ N1 B2 m2 e) := EFQ_ex
    refine .inr ⟨e, up_ (exX M A2 n2) 0 49 e, exQ N1 B2 m2 e, by omega, xw_e1 (by omega) (fun Qr Qt g => x_15s fun V hV hW => x1 c V Qr Qt hV hW (y1 c V Qr Qt hV hW g)), ⟨up_at, by rw [upo (by decide), exX_0 (by decide)]⟩, q356 e _ (fun V Qr Qt hV hW g => Ex_le (d := 4) (by decide) y2 _ _ (ri_i (by rw [exQ_149, if_neg (by omega)]; exact g))), RU_ef (RU_qv w1 qv) fx3 fq3, TYA_ef (TYA_qv w3 qv) fq3, ⟨XRF_ef fx3, QRF_tr (QRF_qv qv) (QRF_ef fq3)⟩, by rw [upo (by decide), exX_0 (by decide)], by rw [upo (by decide), exX_0 (by decide)]⟩
end OTa
end T365_ot
section T366_pl
/-! the run: all plain acts -/
section PLx
variable {z : Int} {M N M' N' M1 N1 : mm_} {σ : Int → Int} {k e s x2 y2 v n bp T c c' c1 c2 f fe op m : Int}
theorem VALle [Inhabited fz_] : ∀ (n : Nat) (c1 : Int), VAL M N T fe σ k n c c1 → c ≤ c1
  | 0, c1, h => by rw [show c1 = c from h]; exact Int.le_refl _
  | n + 1, c1, ⟨c9, h, hE⟩ => by
    have := VALle n c9 h
    have := EXP_0 hE
    omega
theorem bo_2 [Inhabited fz_] (hW : WST z 0 M N s) (hT : M 11 s = T) (hk : 0 ≤ k ∧ k < 1300) (hc0 : 0 ≤ c) (hc : c2 ≤ 11800) (hfe : fe ≤ 2900) (h203 : N 203 k = 2) (hsg : 0 ≤ N 205 k ∧ N 205 k < 20) (h17 : N 205 k < N 6 17) (h210 : (0 ≤ N 210 k ∧ N 210 k ≤ 3) ∧ N 210 k = N 156 (N 205 k)) (hV : VAL (swc M) (tbN N) T fe (fun i => N 157 (3 * N 205 k + i)) k (N 210 k).toNat c c1)
    (hm : (m = 0 ∧ c2 = c1 ∧ N 206 k = -1 ∧ N 207 k = -1) ∨ (m = 1 ∧ N 207 k = -1 ∧ EXP (swc M) (tbN N) T c1 c2 (N 206 k) fe 3) ∨ (m = 2 ∧ c2 = c1 ∧ N 206 k = -1 ∧ 0 ≤ N 207 k ∧ N 207 k < N 6 18)) (hx : M 109 c2 = 33) (hx1 : M 109 (c2 + 1) = N 205 k) (hx2 : M 109 (c2 + 2) = N 210 k) (hx3 : M 109 (c2 + 3) = m) (hx4 : M 109 (c2 + 4) = N 207 k) : BOD z T bp M N s x2 k c (c2 + 5) := by
  have hcc := VALle _ _ hV
  obtain ⟨w1, w2, w3, w4, w5, w6⟩ := id hW
  have n12 := w1.1.1
  have h12 : c1 ≤ c2 := by
    rcases hm with h | h | h
    · omega
    · have := EXP_0 h.2.2; omega
    · omega
  rcases j_val hW hT hk hfe h210.1 (by omega) hV with ⟨A', N1, x1, q1, qv, vs, vz⟩ | ⟨e, M1, N1, he, x1, fx, kp, e49, q1, qv⟩
  · rcases hm with ⟨m0, e2, e6, e7⟩ | ⟨m1, e7, hE⟩ | ⟨m2, e2, e6, e7⟩
    · subst e2; exact bo_2a hW hT hk ⟨hc0, hcc, hc⟩ h203 hsg h17 h210 x1 q1 qv vs vz (.inl ⟨m0, e6, e7⟩) hx hx1 hx2 hx3 hx4
    · subst m1; exact bo_2b hW hT hk ⟨hc0, by omega, hc⟩ h203 hsg h17 h210 x1 q1 qv vs vz hfe (EXP_0 hE).2.2.1 hE hx hx1 hx2 hx3 hx4
    · subst e2; exact bo_2a hW hT hk ⟨hc0, hcc, hc⟩ h203 hsg h17 h210 x1 q1 qv vs vz (.inr ⟨m2, e6, e7⟩) hx hx1 hx2 hx3 hx4
  · refine .inr ⟨e, M1, N1, by omega, xw_e1 (by omega) (fun Qr Qt g => x_15s fun V hV hW => x1 c V Qr Qt hV hW g), ⟨e49, kp.2⟩, q350_2 (by omega) hk h203 (fun Qr Qt g => t_356 fun V hV hW => b_356_0 (Tr_mono _) hV hW _ _ _ (q1 _ _ (ri_i ?_))), RU_ef (RU_qv w1 qv) fx EFQ_rf, TYA_qv w3 qv, ⟨XRF_ef fx, QRF_qv qv⟩, fx.2 7 (by decide) (by decide) (by decide) (by decide) (by decide), fx.2 8 (by decide) (by decide) (by decide) (by decide) (by decide)⟩
    rw [if_neg (by omega)]; exact g
theorem bo_all [Inhabited fz_] (hW : WST z 0 M N s) (hT : M 11 s = T) (hk : 0 ≤ k ∧ k < 1300) (hc0 : 0 ≤ c) (hc : c' ≤ 11800) (hfe : fe ≤ 2900) (hO : OPC (swc M) (tbN N) T k c c' fe) (h5 : N 203 k ≤ 5) (h8 : M 0 8 < 2000000000) : BOD z T bp M N s x2 k c c' := by
  obtain ⟨w1, w2, w3, w4, w5, w6⟩ := id hW
  have hin := w1.1.2.2.1 s w4.1 w4.2
  have hT19 := hin.2.1.2.1
  rw [hT] at hT19
  have pt := PT_of w2 hT19
  unfold PTY at pt
  rw [tbN_r (q := 173) (by decide) (by decide)] at pt
  have t3 := pt.2.2.1.2.2.2.1.2.2
  have p17 := w2.1.1
  rw [tbN_6 (by decide)] at p17
  unfold OPC at hO
  rw [swc_109, tbN_6 (i := 17) (by decide), tbN_6 (i := 18) (by decide), tbN_6 (i := 19) (by decide), tbN_r (q := 203) (by decide) (by decide), tbN_r (q := 205) (by decide) (by decide), tbN_r (q := 206) (by decide) (by decide), tbN_r (q := 207) (by decide) (by decide), tbN_r (q := 210) (by decide) (by decide), tbN_r (q := 156) (by decide) (by decide), tbN_r (q := 157) (by decide) (by decide), tbN_r (q := 170) (by decide) (by decide), tbN_r (q := 171) (by decide) (by decide), tbN_r (q := 173) (by decide) (by decide), tbN_r (q := 182) (by decide) (by decide), tbN_r (q := 183) (by decide) (by decide), tbN_r (q := 184) (by decide) (by decide)] at hO
  rcases hO with ⟨o1, o2, c1, o3, o4, o5⟩ | ⟨o1, o2, o3, o4, o5, c1, c2, m, o6, o7, o8, o9, o10, o11, o12, o13⟩ | ⟨o1, o2, c1, o3, o4, o5, o6⟩ | ⟨o1, o2, o3, o4, o5⟩ | ⟨o1, o2, o3, o4, o5, c1, o6, o7, o8, o9, o10⟩ | ⟨o1, _⟩ | ⟨o1, _⟩ | ⟨o1, _⟩
  · rcases o5 with ⟨p1, p2, p3, p4⟩ | ⟨c0, p1, p2, p3, p4, p5, p6⟩
    · rw [o4]; exact bo_1a hW hT hk (by omega) hfe o1 o2 p1 p2 p3 p4 o3
    · rw [o4]; exact bo_1b hW hT hk (by omega) hfe o1 o2 p1 p2 p3 p4 p5 p6 o3
  · rw [o13]; exact bo_2 hW hT hk hc0 (by omega) hfe o1 (by omega) (by omega) ⟨⟨o3, o4⟩, o5⟩ o6 o7 o8 o9 o10 o11 o12
  · rw [o6]; exact bo_3 hW hT hk (by omega) hfe o1 o2 t3 o3 o4 o5
  · rw [o5]; exact bo_4 hW hT hk (by omega) o1 (by omega) o3 o4
  · have := VALle _ _ o6
    rw [o10]; exact bo_5 hW hT hk (by omega) hfe o1 o2 ⟨⟨o3, o4⟩, o5⟩ o6 hc0 this o7 o8 o9 h8
  · omega
  · omega
  · omega
end PLx
end T366_pl
section T367_an
/-! the run: acts that lead elsewhere -/
section ANa
variable {z : Int} {M N M' N' M1 N1 : mm_} {px : Int → Int} {L : pl_} {k k' e s x2 y2 v n bp T c c' c1 c2 f fe op m i : Int}
theorem RU_12 [Inhabited fz_] (h : RU z M N) (hk : 0 ≤ k ∧ k < M 0 7) (hv : 0 ≤ v ∧ v < N 174 (M 11 k)) : RU z (up_ M 12 k v) (up_ N 239 (sB k + 2) v) := by
  obtain ⟨r1, r2, r3, r4, r5⟩ := h
  have n12 := r1.1
  have hB : sB k = 2 + 56 * k := rfl
  have xr : ∀ r : Nat, r ≠ 12 → up_ M 12 k v r = M r := fun r c => up_ne c
  have qr : ∀ r : Nat, r ≠ 239 → up_ N 239 (sB k + 2) v r = N r := fun r c => up_ne c
  have no : ∀ i, i ≠ sB k + 2 → up_ N 239 (sB k + 2) v 239 i = N 239 i := fun i e => upo e
  refine ⟨RI_k r1 hk (by rw [xr 0 (by decide)]; exact ⟨rfl, rfl⟩) (fun q hq i hi => by
      by_cases c : q = 12
      · rw [c, upo hi]
      · rw [xr q c]) (fun j hj => by rw [xr 13 (by decide)]) (fun j _ => by rw [xr 15 (by decide)]) (fun j _ => by rw [xr 16 (by decide), xr 17 (by decide)]; exact ⟨rfl, rfl⟩) (fun j hj => no j (by omega)) (by rw [qr 6 (by decide)]) (fun q hq => qr q (fun e => by rw [e] at hq; revert hq; decide)) ?_, RRt_k r2 (xr 21 (by decide)) (xr 22 (by decide)) (fun j hj => no j (by omega)) (by rw [qr 6 (by decide)]), RSC_c r3 (fun i _ => by rw [xr 0 (by decide)]) (fun i _ => by rw [qr 6 (by decide)]), ROU_c r4 (fun i _ => by rw [xr 0 (by decide)]) (xr 24 (by decide)) (fun i _ => by rw [qr 6 (by decide)]) (qr 241 (by decide)), REV_c r5 (fun i _ => by rw [xr 0 (by decide)]) (xr 23 (by decide)) (fun i _ => by rw [qr 6 (by decide)]) (qr 240 (by decide))⟩
  obtain ⟨b1, b2, b3, b4, b5⟩ := r1.2.2.1 k hk.1 hk.2
  unfold IN
  rw [xr 10 (by decide), xr 11 (by decide), xr 20 (by decide), xr 18 (by decide), xr 19 (by decide), xr 0 (by decide), xr 13 (by decide), xr 14 (by decide), xr 15 (by decide), xr 16 (by decide), xr 17 (by decide), qr 6 (by decide), qr 174 (by decide), qr 172 (by decide), qr 173 (by decide), no (sB k) (by omega), no (sB k + 1) (by omega), no (sB k + 5) (by omega), no (sB k + 3) (by omega), no (sB k + 4) (by omega), no (sB k + 25) (by omega), up_at, up_at]
  exact ⟨⟨b1.1, b1.2.1, rfl, b1.2.2.2⟩, ⟨b2.1, b2.2.1, by omega, by omega⟩, ⟨fun j j0 j1 => by rw [no _ (by omega)]; exact b3.1 j j0 j1, fun j j0 j1 j2 => by rw [no _ (by omega)]; exact b3.2 j j0 j1 j2⟩, fun t t0 t1 => by rw [no _ (by omega)]; exact b4 t t0 t1, b5.1, fun j j0 j1 => by rw [no _ (by omega)]; exact b5.2.1 j j0 j1, fun j j0 j1 => by rw [no _ (by omega)]; exact b5.2.2 j j0 j1⟩
/-- X's loop ends -/
theorem x_17e [Inhabited fz_] {V : vv_} {Qr : qr_} {Qt : qt_} (hV : Cl_ wd0 (Tr_ wd0 pg0 7) V Qr Qt m_23) (hW : Wk_ V) (g : Qr [] M) : V 17 [rr 0, ii s, ii x2, ii (-1)] [] M := b_23_17 (Tr_mono _) hV hW _ _ _ _ (by rw [if_pos rfl]; exact g)
/-- Q's loop ends -/
theorem q_8e [Inhabited fz_] {V : vv_} {Qr : qr_} {Qt : qt_} {y3 y4 : Int} (hV : Cl_ wd0 (Tr_ wd0 pg0 7) V Qr Qt m_346) (hW : Wk_ V) (g : Qr [] N) : V 8 [rr 6, ii s, ii y2, ii y3, ii y4, ii 0, none, none] [] N := b_346_8 (Tr_mono _) hV hW _ _ _ _ _ _ (by rw [if_pos rfl]; exact g)
/-- GOES -/
theorem ac_7 [Inhabited fz_] (hD : DST z n bp M N s) (hT : M 11 s = T) (hk : 0 ≤ k ∧ k < 1300) (hc : 0 ≤ c ∧ c ≤ 11900) (h203 : N 203 k = 7) (hj : (M 109 c = 38 ∧ M 109 (c + 1) = c') ∨ c = c') (hk' : k < N 205 k) (hA : ATP (swc M) (tbN N) T (N 205 k) c') : AGO z T bp M N s x2 y2 k c n := by
  refine .inl ⟨M, N, N 205 k, c', n, ?_, fun V Qr Qt hV hW g => b_346_8 (Tr_mono _) hV hW _ _ _ _ _ _ ?_, hD, hT, hA, ⟨XRF_rf, QRF_rf⟩, .inr ⟨rfl, hk'⟩⟩
  · rcases hj with ⟨h1, h2⟩ | h
    · exact xw_go (by omega) (w_no (by omega) (by omega)) (fun Qr Qt g => t_24 fun V hV hW => b_24_0 (Tr_mono _) hV hW _ _ ⟨by omega, by
        rw [h1]; simp only [Int.reduceEq, if_true, if_false]
        rw [w32_id (x := c + 1) (by omega) (by omega), h2]
        exact ⟨by omega, g⟩⟩)
    · rw [h]; exact RC_rf
  · rw [if_neg (by decide), if_pos h203]; exact ⟨hk, hk, g⟩
/-- JOINS -/
theorem ac_10 [Inhabited fz_] (hD : DST z n bp M N s) (hT : M 11 s = T) (h30 : M 109 c = 30) (hp : M 109 (c + 1) = N 204 k) (hk : 0 ≤ k ∧ k < 1300) (hc : 0 ≤ c ∧ c ≤ 11800) (h203 : N 203 k = 10) (hl : 0 ≤ N 205 k ∧ N 205 k < N 175 T) (h42 : M 109 (c + 2) = 42) (h43 : M 109 (c + 2 + 1) = 10 * T + N 205 k) : AGO z T bp M N s x2 y2 k c n := by
  have dn := hD.2.2.2.2.2.1
  obtain ⟨w1, w2, w3, w4, w5, w6⟩ := DST_W hD
  have n12 := w1.1.1
  have hin := w1.1.2.2.1 s w4.1 w4.2
  have hT19 := hin.2.1.2.1
  rw [hT] at hT19
  have pt := PT_of w2 hT19
  have p6 := w2.1.2.2
  rw [tbN_6 (by decide)] at p6
  unfold PTY at pt
  rw [tbN_r (q := 175) (by decide) (by decide), tbN_r (q := 188) (by decide) (by decide), show swc M 129 = M 96 from swc_r (q := 96) (by decide) (by decide)] at pt
  have l10 := pt.2.2.1.2.2.2.2.2.2
  have at_ := pt.2.2.2.2.2 (N 205 k) hl.1 hl.2
  have hB : sB s = 2 + 56 * s := rfl
  by_cases hn : n = 200
  · exact ac_m hD hn h30 hp hk (by omega) (by omega)
  · have xc := x_cn (s := s) (x2 := x2) (by omega) h30 hp ⟨dn.1, dn.2.1, by omega⟩
    obtain ⟨v1, v2, v3, v4, v5, v6, v7⟩ := DST_cn (p := N 204 k) hD (by omega)
    have ec := EFX_cn (M := M) (p := N 204 k) (n := n + 1)
    refine .inl ⟨cntX M (N 204 k) (n + 1), N, N 188 (10 * T + N 205 k), M 96 (10 * T + N 205 k), n + 1, RC_tr xc (xw_go (by omega) (w_no (by omega) (by rw [v6]; omega)) (fun Qr Qt g => t_24 fun V hV hW => b_24_0 (Tr_mono _) hV hW _ _ ⟨by omega, ?_⟩)), fun V Qr Qt hV hW g => b_346_8 (Tr_mono _) hV hW _ _ _ _ _ _ ?_, ⟨v1.1, v1.2.1, v1.2.2.1, v1.2.2.2.1, v1.2.2.2.2.1, ⟨v2, by omega, by omega⟩, v1.2.2.2.2.2, by rw [v4]; have := hD.2.2.2.2.2.2.2; omega⟩, by rw [v5]; exact hT, by rw [swc_e (XRF_ef ec)]; exact at_, ⟨XRF_ef ec, QRF_rf⟩, .inl (by omega)⟩
    · rw [v6, h42]; simp only [Int.reduceEq, if_true, if_false]
      rw [w32_id (x := c + 2 + 1) (by omega) (by omega), h43, ec.1 96 (by decide) (by decide)]
      exact ⟨by omega, by omega, g⟩
    · rw [if_neg (by decide), if_neg (by omega), if_pos (by rw [w32_id (x := n + 1) (by omega) (by omega)]; omega), if_neg (by omega), if_neg (by omega), if_neg (by omega), if_neg (by omega), if_pos h203]
      refine ⟨hk, hk, Ex_le (d := 1) (by decide) (q_323 (by omega)) _ _ (ri_i ?_)⟩
      rw [w32_id (x := sB s + 1) (by omega) (by omega), show N 239 (sB s + 1) = T by rw [← hT]; exact hin.1.2.1.symm, w32_id (x := 10 * T) (by omega) (by omega), w32_id (x := 10 * T + N 205 k) (by omega) (by omega), w32_id (x := n + 1) (by omega) (by omega)]
      exact ⟨by omega, hk, by omega, g⟩
/-- ENDS -/
theorem ac_9 [Inhabited fz_] (hD : DST z n bp M N s) (h30 : M 109 c = 30) (hp : M 109 (c + 1) = N 204 k) (hk : 0 ≤ k ∧ k < 1300) (hc : 0 ≤ c ∧ c ≤ 11800) (h203 : N 203 k = 9) (h41 : M 109 (c + 2) = 41) : AGO z T bp M N s x2 y2 k c n := by
  have dn := hD.2.2.2.2.2.1
  by_cases hn : n = 200
  · exact ac_m hD hn h30 hp hk (by omega) (by omega)
  · have xc := x_cn (s := s) (x2 := x2) (by omega) h30 hp ⟨dn.1, dn.2.1, by omega⟩
    obtain ⟨v1, v2, v3, v4, v5, v6, v7⟩ := DST_cn (p := N 204 k) hD (by omega)
    have ec := EFX_cn (M := M) (p := N 204 k) (n := n + 1)
    refine .inr ⟨stopX (cntX M (N 204 k) (n + 1)) s, stopQ N s, fun V Qr Qt hV hW g => xc V Qr Qt hV hW (xw_go (c2 := -1) (M' := stopX (cntX M (N 204 k) (n + 1)) s) (by omega) (w_no (by omega) (by rw [v6]; omega)) (fun Qr Qt g => t_24 fun V hV hW => b_24_0 (Tr_mono _) hV hW _ _ ⟨by omega, ?_⟩) V Qr Qt hV hW (x_17e hV hW g)), fun V Qr Qt hV hW g => b_346_8 (Tr_mono _) hV hW _ _ _ _ _ _ ?_, RU_stp v1.1 v1.2.2.2.1, TYA_stp v1.1 v1.2.2.1 v1.2.2.2.1, ⟨XRF_tr (XRF_ef ec) XRF_stp, QRF_stp⟩, by rw [stopX_8, v4]; have := hD.2.2.2.2.2.2.2; omega⟩
    · rw [v6, h41]; simp only [Int.reduceEq, if_true, if_false]
      rw [v1.2.2.2.2.1]
      exact Ex_le (d := 3) (by decide) (x_32 v1.1 v1.2.2.2.1) _ _ (rv_i g)
    · rw [if_neg (by decide), if_neg (by omega), if_pos (by rw [w32_id (x := n + 1) (by omega) (by omega)]; omega), if_neg (by omega), if_neg (by omega), if_neg (by omega), if_pos h203]
      refine ⟨hk, hk, Ex_le (d := 3) (by decide) (q_348 v1.1 v1.2.2.2.1) _ _ (rv_i ?_)⟩
      rw [if_pos (by decide)]
      exact q_8e hV hW g
/-- BECOME -/
theorem ac_8 [Inhabited fz_] (hD : DST z n bp M N s) (hT : M 11 s = T) (h30 : M 109 c = 30) (hp : M 109 (c + 1) = N 204 k) (hk : 0 ≤ k ∧ k < 1300) (hc : 0 ≤ c ∧ c ≤ 11800) (h203 : N 203 k = 8) (h39 : (N 205 k = -1 ∧ M 109 (c + 2) = 40) ∨ (0 ≤ N 205 k ∧ N 205 k < N 174 T ∧ M 109 (c + 2) = 39 ∧ M 109 (c + 2 + 1) = N 205 k)) (h174 : N 174 T ≤ 12) : AGO z T bp M N s x2 y2 k c n := by
  have dn := hD.2.2.2.2.2.1
  by_cases hn : n = 200
  · exact ac_m hD hn h30 hp hk (by omega) (by omega)
  · have xc := x_cn (s := s) (x2 := x2) (by omega) h30 hp ⟨dn.1, dn.2.1, by omega⟩
    obtain ⟨v1, v2, v3, v4, v5, v6, v7⟩ := DST_cn (p := N 204 k) hD (by omega)
    have ec := EFX_cn (M := M) (p := N 204 k) (n := n + 1)
    obtain ⟨w1, w2, w3, w4, w5, w6⟩ := v1
    have n12 := w1.1.1
    have hB : sB s = 2 + 56 * s := rfl
    have hin := w1.1.2.2.1 s w4.1 w4.2
    generalize hM1 : cntX M (N 204 k) (n + 1) = M1 at *
    have ep : N 239 (sB s) = M1 10 s := hin.1.1.symm
    -- the state is told
    have fin : ∀ (M2 N2 : mm_), RU z M2 N2 → TYA N2 → XRF M1 M2 → QRF N N2 → M2 0 8 = M1 0 8 → M2 10 s = M1 10 s → N2 239 (sB s) = M1 10 s → M2 0 46 = s →
        (∀ (Qr : qr_) (Qt : qt_), Tr_ wd0 pg0 6 5 [.inr (.inr 0), .inl 5, .inl (M1 10 s), .inl (-1), .inl 0] M2 (rv_ fun M6 => Qr [.inl (-1)] M6) Qt → Tr_ wd0 pg0 7 24 [.inr (.inr 0), .inl (c + 2)] M1 Qr Qt) →
        (∀ (V : vv_) (Qr : qr_) (Qt : qt_), Cl_ wd0 (Tr_ wd0 pg0 7) V Qr Qt m_346 → Wk_ V → V 126 [rr 6, ii s, ii y2, ii k, ii (n + 1), ii 1, ii 0, none] [] N2 → V 8 [rr 6, ii s, ii y2, ii k, ii n, ii 1, none, none] [] N) → AGO z T bp M N s x2 y2 k c n := fun M2 N2 ru tA fx fq e8 e10 eq e46 hx hq => by
      have b5 := RU_b5 ru
      have b3 := RU_b324 ru
      refine .inr ⟨evX M2 5 (M1 10 s) (-1) 0, evQ N2 5 (M1 10 s) (-1) 0, fun V Qr Qt hV hW g => xc V Qr Qt hV hW (xw_go (c2 := -1) (M' := evX M2 5 (M1 10 s) (-1) 0) (by omega) (w_no (by omega) (by rw [v6]; omega)) (fun Qr Qt g => hx Qr Qt (Ex_le (d := 1) (by decide) (x_5 b5.1 b5.2.1 b5.2.2) _ _ (rv_i g))) V Qr Qt hV hW (x_17e hV hW g)), fun V Qr Qt hV hW g => hq V Qr Qt hV hW (b_346_126 (Tr_mono _) hV hW _ _ _ _ _ _ _ (Ex_le (d := 1) (by decide) (q_323 (by omega)) _ _ (ri_i ⟨by omega, ?_⟩))), RU_ev ru, TYA_ev tA, ⟨XRF_tr (XRF_ef ec) (XRF_tr fx XRF_ev), QRF_tr fq QRF_ev⟩, by rw [EvX_ev.2 8 (by decide) (by decide), e8, v4]; have := hD.2.2.2.2.2.2.2; omega⟩
      rw [eq]
      refine Ex_le (d := 1) (by decide) (q_324 b3.1 b3.2.1 b3.2.2) _ _ (rv_i ?_)
      rw [if_pos (by decide)]
      exact q_8e hV hW g
    have q8 : ∀ (V : vv_) (Qr : qr_) (Qt : qt_), Cl_ wd0 (Tr_ wd0 pg0 7) V Qr Qt m_346 → Wk_ V → (if N 205 k < 0 then V 126 [rr 6, ii s, ii y2, ii k, ii (n + 1), ii 1, ii 0, none] [] N else V 126 [rr 6, ii s, ii y2, ii k, ii (n + 1), ii 1, ii 0, none] [] (up_ N 239 (sB s + 2) (N 205 k))) → V 8 [rr 6, ii s, ii y2, ii k, ii n, ii 1, none, none] [] N := fun V Qr Qt hV hW g => b_346_8 (Tr_mono _) hV hW _ _ _ _ _ _ (by
      rw [if_neg (by decide), if_neg (by omega), if_pos (by rw [w32_id (x := n + 1) (by omega) (by omega)]; omega), if_neg (by omega), if_neg (by omega), if_pos h203]
      refine ⟨hk, hk, hk, ?_⟩
      by_cases c0 : N 205 k < 0
      · rw [if_pos c0] at g ⊢; rw [w32_id (x := n + 1) (by omega) (by omega)]; exact g
      · rw [if_neg c0] at g ⊢
        refine Ex_le (d := 1) (by decide) (q_323 (by omega)) _ _ (ri_i ?_)
        rw [w32_id (x := sB s + 2) (by omega) (by omega), w32_id (x := n + 1) (by omega) (by omega)]
        exact ⟨hk, by omega, g⟩)
    rcases h39 with ⟨e5, e40⟩ | ⟨e5, e6, e39, e7⟩
    · refine fin M1 N w1 w3 XRF_rf QRF_rf rfl rfl ep w5 (fun Qr Qt g => t_24 fun V hV hW => b_24_0 (Tr_mono _) hV hW _ _ ⟨by omega, ?_⟩) (fun V Qr Qt hV hW g => q8 V Qr Qt hV hW (by rw [if_pos (by omega)]; exact g))
      rw [v6, e40]; simp only [Int.reduceEq, if_true, if_false]
      rw [w5]; exact ⟨by omega, g⟩
    · refine fin (up_ M1 12 s (N 205 k)) (up_ N 239 (sB s + 2) (N 205 k)) (RU_12 w1 w4 (by rw [v5, hT]; exact ⟨e5, e6⟩)) (TYA_239 w3 (by omega) 2 _ (by decide) (by omega) (by unfold R32; omega)) (XRF_up (by decide) (fun e => absurd e (by decide))) (QRF_up (by decide) (fun e => absurd e (by decide))) (by rw [up_ne (by decide)]) (by rw [up_ne (by decide)]) (by rw [upo (by omega)]; exact ep) (by rw [up_ne (by decide)]; exact w5) (fun Qr Qt g => t_24 fun V hV hW => b_24_0 (Tr_mono _) hV hW _ _ ⟨by omega, ?_⟩) (fun V Qr Qt hV hW g => q8 V Qr Qt hV hW (by rw [if_neg (by omega)]; exact g))
      rw [v6, e39]; simp only [Int.reduceEq, if_true, if_false]
      rw [w32_id (x := c + 2 + 1) (by omega) (by omega), e7, w5]
      exact ⟨by omega, by omega, by omega, g⟩
end ANa
end T367_an
section T368_de
/-! the run: DECIDE (X 24 | Q 349) -/
section DEa
variable {z : Int} {M N M' N' M1 N1 : mm_} {px : Int → Int} {L : pl_} {k k1 e s x2 y2 v n bp T c c' c1 f fe m i q r0 r1 l g lo hi t nn at_ : Int}
/-- the ranges of a part -/
theorem dk_r [Inhabited fz_] (hr : 0 ≤ r0 ∧ r1 ≤ 1300) (ha : 0 ≤ at_ ∧ at_ + 3 + 2 * nn ≤ 11900) (hn : nn ≤ 6000) : ∀ (j : Nat) (i cc g : Int), RGL (swc M) (tbN N) q r0 r1 j cc g l → cc = at_ + 2 + 2 * i → i + j + 1 = nn → 0 ≤ i →
    ((∃ i', RC 6 m_24 385 [rr 0, ii at_, rr 109, ii nn, ii v, ii 0, ii i] M 439 [rr 0, ii at_, rr 109, ii nn, ii v, ii 1, ii i'] M) ∧ ∀ (V : vv_) (Qr : qr_) (Qt : qt_), Cl_ wd0 (Tr_ wd0 pg0 6) V Qr Qt m_349 → Wk_ V → Qr [.inl q] N → V 7 [rr 6, ii k, ii v, ii g] [] N)
    ∨ (RC 6 m_24 385 [rr 0, ii at_, rr 109, ii nn, ii v, ii 0, ii i] M 439 [rr 0, ii at_, rr 109, ii nn, ii v, ii 0, ii nn] M ∧ RC 6 m_349 7 [rr 6, ii k, ii v, ii g] N 7 [rr 6, ii k, ii v, ii (N 219 l)] N) := fun j => by
  -- one range
  have one : ∀ (i g : Int), (r0 ≤ g ∧ g < r1) → RNG (swc M) (tbN N) (at_ + 2 + 2 * i) g q → 0 ≤ i → i < nn →
      ((RC 6 m_24 385 [rr 0, ii at_, rr 109, ii nn, ii v, ii 0, ii i] M 439 [rr 0, ii at_, rr 109, ii nn, ii v, ii 1, ii (i + 1)] M) ∧ ∀ (V : vv_) (Qr : qr_) (Qt : qt_), Cl_ wd0 (Tr_ wd0 pg0 6) V Qr Qt m_349 → Wk_ V → Qr [.inl q] N → V 7 [rr 6, ii k, ii v, ii g] [] N)
      ∨ (RC 6 m_24 385 [rr 0, ii at_, rr 109, ii nn, ii v, ii 0, ii i] M 385 [rr 0, ii at_, rr 109, ii nn, ii v, ii 0, ii (i + 1)] M ∧ RC 6 m_349 7 [rr 6, ii k, ii v, ii g] N 7 [rr 6, ii k, ii v, ii (N 219 g)] N) := fun i g hg hR i0 i1 => by
    obtain ⟨e1, e2, e3⟩ := hR
    rw [swc_109, tbN_r (q := 216) (by decide) (by decide)] at e1
    rw [swc_109, tbN_r (q := 217) (by decide) (by decide)] at e2
    rw [tbN_r (q := 218) (by decide) (by decide)] at e3
    have wa : w32 (w32 (at_ + 2) + w32 (2 * i)) = at_ + 2 + 2 * i := by rw [w32_id (x := at_ + 2) (by omega) (by omega), w32_id (x := 2 * i) (by omega) (by omega), w32_id (by omega) (by omega)]
    have wb : w32 (w32 (at_ + 3) + w32 (2 * i)) = at_ + 2 + 2 * i + 1 := by rw [w32_id (x := at_ + 3) (by omega) (by omega), w32_id (x := 2 * i) (by omega) (by omega), w32_id (by omega) (by omega)]; omega
    have wi : w32 (i + 1) = i + 1 := w32_id (by omega) (by omega)
    by_cases c1 : v < N 216 g
    · refine .inr ⟨fun V Qr Qt hV hW h => b_24_385 (Tr_mono _) hV hW _ _ _ _ _ _ ?_, fun V Qr Qt hV hW h => b_349_7 (Tr_mono _) hV hW _ _ _ _ ?_⟩
      · rw [if_pos i1, if_pos rfl, wa, wb, wi, e1, if_pos c1]; exact ⟨by omega, h⟩
      · rw [if_neg (by omega), if_pos c1]; exact ⟨by omega, by omega, h⟩
    · by_cases c2 : v ≤ N 217 g
      · refine .inl ⟨fun V Qr Qt hV hW h => b_24_385 (Tr_mono _) hV hW _ _ _ _ _ _ ?_, fun V Qr Qt hV hW h => b_349_7 (Tr_mono _) hV hW _ _ _ _ ?_⟩
        · rw [if_pos i1, if_pos rfl, wa, wb, wi, e1, if_neg c1, e2, if_pos c2]
          refine ⟨by omega, by omega, b_24_385 (Tr_mono _) hV hW _ _ _ _ _ _ ?_⟩
          by_cases c3 : i + 1 < nn
          · rw [if_pos c3, if_neg (by decide)]; exact h
          · rw [if_neg c3]; exact h
        · rw [if_neg (by omega), if_neg c1, if_pos c2, e3]; exact ⟨by omega, by omega, by omega, h⟩
      · refine .inr ⟨fun V Qr Qt hV hW h => b_24_385 (Tr_mono _) hV hW _ _ _ _ _ _ ?_, fun V Qr Qt hV hW h => b_349_7 (Tr_mono _) hV hW _ _ _ _ ?_⟩
        · rw [if_pos i1, if_pos rfl, wa, wb, wi, e1, if_neg c1, e2, if_neg c2]; exact ⟨by omega, by omega, h⟩
        · rw [if_neg (by omega), if_neg c1, if_neg c2]; exact ⟨by omega, by omega, by omega, h⟩
  induction j with
  | zero =>
    intro i cc g h hcc hnn i0
    obtain ⟨e0, hg, hR⟩ := h
    subst e0
    rw [hcc] at hR
    rcases one i g hg hR i0 (by omega) with ⟨x, y⟩ | ⟨x, y⟩
    · exact .inl ⟨⟨_, x⟩, y⟩
    · refine .inr ⟨RC_tr x (fun V Qr Qt hV hW h => b_24_385 (Tr_mono _) hV hW _ _ _ _ _ _ ?_), y⟩
      rw [if_neg (by omega), show i + 1 = nn by omega]; exact h
  | succ j ih =>
    intro i cc g h hcc hnn i0
    obtain ⟨hg, hR, hlt, hL⟩ := h
    rw [hcc] at hR
    rw [tbN_r (q := 219) (by decide) (by decide)] at hL
    rcases one i g hg hR i0 (by omega) with ⟨x, y⟩ | ⟨x, y⟩
    · exact .inl ⟨⟨_, x⟩, y⟩
    · rcases ih (i + 1) (cc + 2) (N 219 g) hL (by omega) (by omega) (by omega) with ⟨⟨i', x'⟩, y'⟩ | ⟨x', y'⟩
      · exact .inl ⟨⟨i', RC_tr x x'⟩, fun V Qr Qt hV hW h => y V Qr Qt hV hW (y' V Qr Qt hV hW h)⟩
      · exact .inr ⟨RC_tr x x', RC_tr y y'⟩
/-- the parts of a decide -/
theorem dk_c [Inhabited fz_] (hr : 0 ≤ r0 ∧ r1 ≤ 1300) (hl : 0 ≤ lo ∧ hi ≤ 11800) (hk : 0 ≤ k ∧ k < 1300) (h45 : M 0 45 = 1) (h26 : M 26 0 = v) : ∀ (m : Nat) (c g : Int), CHN (swc M) (tbN N) px L lo hi r0 r1 k k1 m c g →
    ∃ q, L q ∧ (k < q ∧ q ≤ k1) ∧ (∀ (V : vv_) (Qr : qr_) (Qt : qt_), Cl_ wd0 (Tr_ wd0 pg0 7) V Qr Qt m_23 → Wk_ V → V 17 [rr 0, ii s, ii x2, ii (px q)] [] (up_ M 0 45 0) → Tr_ wd0 pg0 7 24 [.inr (.inr 0), .inl c] M (ri_ fun v2 M2 => V 17 [rr 0, ii s, ii x2, ii v2] [] M2) (fun r M9 => (r = 7 ∨ r = 8) ∧ V 38 [rr 0, ii s, ii x2, none] [.inr (.inr r)] M9)) ∧ ∀ (V : vv_) (Qr : qr_) (Qt : qt_), Cl_ wd0 (Tr_ wd0 pg0 6) V Qr Qt m_349 → Wk_ V → Qr [.inl q] N → V 7 [rr 6, ii k, ii v, ii g] [] N := fun m => by
  induction m with
  | zero =>
    intro c g h
    obtain ⟨⟨b1, b2⟩, hg, h44, q, hq, hpx, hkq, hL⟩ := h
    rw [swc_109] at h44
    rw [tbN_r (q := 207) (by decide) (by decide), tbN_r (q := 208) (by decide) (by decide)] at hq
    refine ⟨q, hL, hkq, fun V Qr Qt hV hW h => t_24 fun V' hV' hW' => b_24_0 (Tr_mono _) hV' hW' _ _ ⟨by omega, ?_⟩, fun V Qr Qt hV hW h => b_349_7 (Tr_mono _) hV hW _ _ _ _ ?_⟩
    · rw [h44]; simp only [Int.reduceEq, if_true, if_false]
      rw [h45, show w32 (1 - 1) = 0 from w32_id (by decide) (by decide), w32_id (x := c + 1) (by omega) (by omega), hpx]
      exact ri_i h
    · rw [if_pos (by omega)]
      by_cases c0 : N 207 k < 0
      · rw [if_pos c0]; rw [hq, if_neg (by omega)] at h; exact ⟨hk, hk, h⟩
      · rw [if_neg c0]; rw [hq, if_pos (by omega)] at h; exact ⟨hk, hk, h⟩
  | succ m ih =>
    intro c g h
    obtain ⟨ce, l, ⟨j, q, ⟨b1, b2⟩, h43, hn1, hRG, hpx, hkq, hL, hce⟩, hC⟩ := h
    rw [swc_109] at h43 hn1 hce
    rw [tbN_r (q := 219) (by decide) (by decide)] at hC
    obtain ⟨q', hL', hkq', x', y'⟩ := ih ce (N 219 l) hC
    have cb : lo ≤ ce ∧ ce + 1 ≤ hi ∧ 25 ≤ M 109 ce := by
      cases m with
      | zero => obtain ⟨b, _, h44, _⟩ := hC; rw [swc_109] at h44; omega
      | succ m => obtain ⟨_, _, ⟨j', _, b, h43', _⟩, _⟩ := hC; rw [swc_109] at h43'; omega
    have st : ∀ (Qr : qr_) (Qt : qt_), (∀ V' : vv_, Cl_ wd0 (Tr_ wd0 pg0 6) V' Qr Qt m_24 → Wk_ V' → V' 385 [rr 0, ii c, rr 109, ii ((j : Int) + 1), ii v, ii 0, ii 0] [] M) → Tr_ wd0 pg0 7 24 [.inr (.inr 0), .inl c] M Qr Qt := fun Qr Qt h => t_24 fun V' hV' hW' => b_24_0 (Tr_mono _) hV' hW' _ _ ⟨by omega, by
      rw [h43]; simp only [Int.reduceEq, if_true, if_false]
      rw [w32_id (x := c + 1) (by omega) (by omega), hn1, h45, show w32 (1 - 1) = 0 from w32_id (by decide) (by decide), h26]
      exact ⟨by omega, by decide, h V' hV' hW'⟩⟩
    rcases dk_r (M := M) (N := N) (k := k) (v := v) (at_ := c) (nn := (j : Int) + 1) hr (by omega) (by omega) j 0 (c + 2) g hRG (by omega) (by omega) (by decide) with ⟨⟨i', x⟩, y⟩ | ⟨x, y⟩
    · refine ⟨q, hL, hkq, fun V Qr Qt hV hW h => st _ _ fun V' hV' hW' => x V' _ _ hV' hW' (b_24_439 (Tr_mono _) hV' hW' _ _ _ _ _ _ ?_), y⟩
      rw [if_neg (by decide), h45, show w32 (1 - 1) = 0 from w32_id (by decide) (by decide), w32_id (x := c + 3) (by omega) (by omega), w32_id (x := 2 * ((j : Int) + 1)) (by omega) (by omega), w32_id (x := c + 3 + 2 * ((j : Int) + 1)) (by omega) (by omega), show c + 3 + 2 * ((j : Int) + 1) = px q by omega]
      exact ri_i h
    · refine ⟨q', hL', hkq', fun V Qr Qt hV hW h => st _ _ fun V' hV' hW' => x V' _ _ hV' hW' (b_24_439 (Tr_mono _) hV' hW' _ _ _ _ _ _ ?_), fun V Qr Qt hV hW h => y V Qr Qt hV hW (y' V Qr Qt hV hW h)⟩
      rw [if_pos rfl, w32_id (x := c + 2) (by omega) (by omega), w32_id (x := 2 * ((j : Int) + 1)) (by omega) (by omega), w32_id (x := c + 2 + 2 * ((j : Int) + 1)) (by omega) (by omega), show c + 2 + 2 * ((j : Int) + 1) = c + 2 * j + 4 by omega, hce]
      refine ⟨by omega, ri_i (b_23_17 (Tr_mono _) hV hW _ _ _ _ ?_)⟩
      rw [if_neg (by omega)]
      exact Ex_le (d := 3) (by decide) (w_no (by omega) cb.2.2) _ _ (ri_i (x' V Qr Qt hV hW h))
theorem ac_6 [Inhabited fz_] (hD : DST z n bp M N s) (hT : M 11 s = T) (h30 : M 109 c = 30) (hp : M 109 (c + 1) = N 204 k) (hk : 0 ≤ k ∧ k < 1300) (hc : 0 ≤ c ∧ c ≤ 11800) (h203 : N 203 k = 6) (hfe : fe ≤ 2900) (hc1 : c1 ≤ 11800) (hl : 0 ≤ lo ∧ hi ≤ 11800) (hr : 0 ≤ r0 ∧ r1 ≤ 1300) (hE : EXP (swc M) (tbN N) T (c + 2) c1 (N 205 k) fe t) (mm : Nat) (hC : CHN (swc M) (tbN N) px L lo hi r0 r1 k k1 (mm + 1) c1 (N 206 k)) (hL : ∀ q, L q → ATP (swc M) (tbN N) T q (px q)) : AGO z T bp M N s x2 y2 k c n := by
  have dn := hD.2.2.2.2.2.1
  by_cases hn : n = 200
  · exact ac_m hD hn h30 hp hk (by omega) (by omega)
  · have xc := x_cn (s := s) (x2 := x2) (by omega) h30 hp ⟨dn.1, dn.2.1, by omega⟩
    obtain ⟨v1, v2, v3, v4, v5, v6, v7⟩ := DST_cn (p := N 204 k) hD (by omega)
    have ec := EFX_cn (M := M) (p := N 204 k) (n := n + 1)
    have sw := swc_e (XRF_ef ec)
    have n12 := v1.1.1.1
    have w4 := v1.2.2.2.1
    generalize hM1 : cntX M (N 204 k) (n + 1) = M1 at *
    have h25 : 25 ≤ M1 109 c1 := by
      obtain ⟨_, _, ⟨j', _, b, h43', _⟩, _⟩ := hC
      rw [swc_109] at h43'; rw [v6]; omega
    have b0 := EXP_0 hE
    have q8 : ∀ (V : vv_) (Qr : qr_) (Qt : qt_), Cl_ wd0 (Tr_ wd0 pg0 7) V Qr Qt m_346 → Wk_ V → Tr_ wd0 pg0 7 339 [.inr (.inr 6), .inl s, .inl (N 205 k)] N (ri_ fun v5 M9 => if M9 6 149 = 0 then Tr_ wd0 pg0 7 349 [.inr (.inr 6), .inl k, .inl v5] M9 (ri_ fun v6 M11 => V 8 [rr 6, ii s, ii y2, ii v6, ii (n + 1), ii 1, none, none] [] M11) Qt else (if M9 6 149 ≤ 0 then V 8 [rr 6, ii s, ii y2, ii (w32 (k + 1)), ii (n + 1), ii 1, none, none] [] M9 else (0 ≤ k ∧ k < 1300) ∧ Tr_ wd0 pg0 7 347 [.inr (.inr 6), .inl s, .inl (M9 6 149), .inl (M9 204 k)] M9 (rv_ fun M10 => Qr [] M10) Qt)) Qt → V 8 [rr 6, ii s, ii y2, ii k, ii n, ii 1, none, none] [] N := fun V Qr Qt hV hW g => b_346_8 (Tr_mono _) hV hW _ _ _ _ _ _ (by
      rw [if_neg (by decide), if_neg (by omega), w32_id (x := n + 1) (by omega) (by omega), if_pos (by omega), if_pos h203]
      exact ⟨hk, hk, hk, g⟩)
    rcases ev_w (T := T) (c := c + 2) (c1 := c1) v1 (by decide) (by rw [v5]; exact hT) (by rw [sw]; exact hE) (by omega) hfe h25 with ⟨A', v, N1, x1, q1, e149, fq, ev, _, _⟩ | ⟨e, M2, N1, v, he, x1, fx, kp, e49, q1, e149, fq⟩
    · have sw2 : swc (exX M1 A' 1) = swc M := (swc_e (XRF_ef EFX_ex)).trans sw
      have tb : tbN N1 = tbN N := tbN_e (QRF_ef fq)
      obtain ⟨q, hLq, hkq, xq, yq⟩ := dk_c (M := exX M1 A' 1) (N := N1) (s := s) (x2 := x2) (v := v) hr hl hk exX_45 (by rw [exX_26]; exact ev) (mm + 1) c1 (N 206 k) (by rw [sw2, tb]; exact hC)
      have fx3 : EFX M (exX M1 A' 0) := EFX_tr ec EFX_ex
      have ws : WST z 0 (exX M1 A' 0) N1 s := WST_ef v1 EFX_ex fq (exX_0 (by decide)) exX_45
      refine .inl ⟨exX M1 A' 0, N1, q, px q, n + 1, RC_tr xc (fun V Qr Qt hV hW g => b_23_17 (Tr_mono _) hV hW _ _ _ _ ?_), fun V Qr Qt hV hW g => q8 V Qr Qt hV hW (Ex_le (d := 4) (by decide) q1 _ _ (ri_i ?_)), ⟨ws.1, ws.2.1, ws.2.2.1, ws.2.2.2.1, ws.2.2.2.2.1, ⟨by rw [exX_0 (by decide)]; exact v2, by omega, by omega⟩, exX_45, by rw [exX_0 (by decide), v4]; have := hD.2.2.2.2.2.2.2; omega⟩, by rw [exX_r (by decide) (by decide), v5]; exact hT, by rw [swc_e (XRF_ef fx3), tb]; exact hL q hLq, ⟨XRF_ef fx3, QRF_ef fq⟩, .inl (by omega)⟩
      · rw [if_neg (by omega)]
        refine Ex_le (d := 3) (by decide) x1 _ _ (ri_i (xq V Qr Qt hV hW ?_))
        rw [exX_o]; exact g
      · rw [if_pos e149]
        refine t_349 fun V' hV' hW' => b_349_0 (Tr_mono _) hV' hW' _ _ _ ⟨hk, ?_⟩
        rw [fq.1 206 (by decide) (by decide)]
        exact yq V' _ _ hV' hW' (ri_i g)
    · have fx3 := EFX_tr ec fx
      have ru := RU_ef v1.1 fx fq
      refine ac_e (M' := M2) (N' := N1) (e := e) (p := N 204 k) ru (TYA_ef v1.2.2.1 fq) (by rw [fx.2 7 (by decide) (by decide) (by decide) (by decide) (by decide)]; exact w4) e49 (by rw [kp.2, v3]) (fun V Qr Qt hV hW g => xc V Qr Qt hV hW (xw_e1 (by omega) x1 V Qr Qt hV hW g)) ⟨XRF_ef fx3, QRF_ef fq⟩ (by rw [fx.2 8 (by decide) (by decide) (by decide) (by decide) (by decide), v4]; have := hD.2.2.2.2.2.2.2; omega) (fun V Qr Qt hV hW g => q8 V Qr Qt hV hW (Ex_le (d := 4) (by decide) q1 _ _ (ri_i ?_)))
      rw [e149, if_neg (by omega), if_neg (by omega), fq.1 204 (by decide) (by decide)]
      exact ⟨hk, g⟩
end DEa
end T368_de
section T369_tr
/-! the run: a transition (X 23 | Q 346) -/
section TRa
variable {z : Int} {M N M' N' M1 N1 : mm_} {k s x2 y2 n bp T c : Int}
theorem at_b [Inhabited fz_] (hP : PLr M N) (hA : ATP (swc M) (tbN N) T k c) : (0 ≤ k ∧ k < 1200) ∧ (0 ≤ c ∧ c ≤ 11200) := by
  obtain ⟨k0, k1, c0, c1, r0, r1, fe, px, L, a1, a2, a3, a4, a5, a6, a7, _⟩ := AT_k hA
  have b := PL_b hP
  rw [tbN_6 (by decide)] at a1
  rw [swc_5] at a2
  have := a5 k a6.1 (by omega)
  omega
theorem ac_all [Inhabited fz_] (hD : DST z n bp M N s) (hT : M 11 s = T) (hbp : bp ≤ 2000000000) (hA : ATP (swc M) (tbN N) T k c) : AGO z T bp M N s x2 y2 k c n := by
  have hP := hD.2.1
  have ab := at_b hP hA
  obtain ⟨k0, k1, c0, c1, r0, r1, fe, px, L, a1, a2, a3, a4, a5, a6, a7, a8, a9, a10⟩ := AT_k hA
  have b := PL_b hP
  rw [tbN_6 (by decide)] at a1 a3 a4
  rw [swc_5] at a2
  have pk := a5 k a6.1 (by omega)
  have pk1 := a5 (k + 1) (by omega) (by omega)
  have d8 := hD.2.2.2.2.2.2.2
  have dn := hD.2.2.2.2.2.1
  obtain ⟨w1, w2, w3, w4, w5, w6⟩ := DST_W hD
  have hin := w1.1.2.2.1 s w4.1 w4.2
  have hT19 := hin.2.1.2.1
  rw [hT] at hT19
  have pt := PT_of w2 hT19
  unfold PTY at pt
  rw [tbN_r (q := 174) (by decide) (by decide)] at pt
  have h174 := pt.2.2.1.1.2.2
  unfold OPX at a8
  rw [swc_109, tbN_r (q := 203) (by decide) (by decide), tbN_r (q := 204) (by decide) (by decide), tbN_r (q := 205) (by decide) (by decide), tbN_r (q := 206) (by decide) (by decide)] at a8
  rw [a7] at a8
  rcases a8 with ⟨o1, o2, o3, o4, o5⟩ | ⟨o1, o2, o3, o4, o5, o6⟩ | ⟨o1, o2, o3, c9, t, m, o4, o5, o6, o7⟩ | ⟨o1, o2, o3, o4⟩
  · by_cases c5 : N 203 k ≤ 5
    · have ec := EFX_cn (M := M) (p := N 204 k) (n := n + 1)
      refine ac_p hD o2 o3 (by omega) (by omega) ⟨o1.1, c5⟩ (a10 (k + 1) (o5 c5 a9)) (fun hn => ?_)
      obtain ⟨v1, v2, v3, v4, v5, v6, v7⟩ := DST_cn (p := N 204 k) hD hn
      exact bo_all (fe := fe) v1 (by rw [v5]; exact hT) (by omega) (by omega) (by omega) (by omega) (by rw [swc_e (XRF_ef ec)]; exact o4) c5 (by rw [v4]; omega)
    · unfold OPC at o4
      rw [swc_109, tbN_r (q := 203) (by decide) (by decide), tbN_r (q := 205) (by decide) (by decide), tbN_r (q := 174) (by decide) (by decide), tbN_r (q := 175) (by decide) (by decide)] at o4
      rcases o4 with ⟨p1, _⟩ | ⟨p1, _⟩ | ⟨p1, _⟩ | ⟨p1, _⟩ | ⟨p1, _⟩ | ⟨p1, p2⟩ | ⟨p1, p2, p3⟩ | ⟨p1, p2, p3, p4, p5⟩
      · omega
      · omega
      · omega
      · omega
      · omega
      · refine ac_8 hD hT o2 o3 (by omega) (by omega) p1 ?_ h174
        rcases p2 with ⟨q1, q2, _⟩ | ⟨q1, q2, q3, q4, _⟩
        · exact .inl ⟨q1, q2⟩
        · exact .inr ⟨q1, q2, q3, q4⟩
      · exact ac_9 hD o2 o3 (by omega) (by omega) p1 p2
      · exact ac_10 hD hT o2 o3 (by omega) (by omega) p1 p2 p3 p4
  · exact ac_7 hD hT (by omega) (by omega) o1 (.inl ⟨o2, o3⟩) o4.1 (a10 _ (o6 a9))
  · exact ac_6 (lo := c0) (hi := c1) (r0 := r0) (r1 := r1) hD hT o2 o3 (by omega) (by omega) o1 (by omega) (by omega) (by omega) (by omega) o5 m o7 a10
  · exact ac_7 hD hT (by omega) (by omega) o1 (.inr o2) o3.1 (a10 _ (o4 a9))
theorem tr_l [Inhabited fz_] (hbp : bp ≤ 2000000000) : ∀ (j : Nat) (M N : mm_) (k c n : Int), (201 - n) * 1300 + (1300 - k) ≤ j → DST z n bp M N s → M 11 s = T → ATP (swc M) (tbN N) T k c → ∃ M' N', (∀ (V : vv_) (Qr : qr_) (Qt : qt_), Cl_ wd0 (Tr_ wd0 pg0 7) V Qr Qt m_23 → Wk_ V → Qr [] M' → V 17 [rr 0, ii s, ii x2, ii c] [] M) ∧ (∀ (V : vv_) (Qr : qr_) (Qt : qt_), Cl_ wd0 (Tr_ wd0 pg0 7) V Qr Qt m_346 → Wk_ V → Qr [] N' → V 8 [rr 6, ii s, ii y2, ii k, ii n, ii 1, none, none] [] N) ∧ RU z M' N' ∧ TYA N' ∧ (XRF M M' ∧ QRF N N') ∧ M' 0 8 ≤ bp := fun j => by
  induction j with
  | zero =>
    intro M N k c n hj hD hT hA
    have := (at_b hD.2.1 hA).1
    have := hD.2.2.2.2.2.1
    omega
  | succ j ih =>
    intro M N k c n hj hD hT hA
    have ab := (at_b hD.2.1 hA).1
    rcases ac_all (x2 := x2) (y2 := y2) hD hT hbp hA with ⟨M1, N1, k', c', n', x1, q1, d1, t1, a1, f1, m1⟩ | ⟨M', N', x1, q1, r1, t1, f1, b1⟩
    · have ab' := (at_b d1.2.1 a1).1
      have dn := d1.2.2.2.2.2.1
      obtain ⟨M', N', x2', q2, r2, t2, f2, b2⟩ := ih M1 N1 k' c' n' (by omega) d1 t1 a1
      exact ⟨M', N', fun V Qr Qt hV hW g => x1 V Qr Qt hV hW (x2' V Qr Qt hV hW g), fun V Qr Qt hV hW g => q1 V Qr Qt hV hW (q2 V Qr Qt hV hW g), r2, t2, ⟨XRF_tr f1.1 f2.1, QRF_tr f1.2 f2.2⟩, b2⟩
    · exact ⟨M', N', x1, q1, r1, t1, f1, b1⟩
/-- a transition -/
theorem j_23 [Inhabited fz_] (h : RU z M N) (hP : PLr M N) (hA : TYA N) (hs : 0 ≤ s ∧ s < M 0 7) (h8 : M 0 8 + 200 ≤ 2000000000) (hT : ATP (swc M) (tbN N) (M 11 s) k c) : ∃ M' N', Ex_ 8 23 [.inr (.inr 0), .inl s, .inl c] M [] M' ∧ Ex_ 8 346 [.inr (.inr 6), .inl s, .inl k] N [] N' ∧ RU z M' N' ∧ TYA N' ∧ (XRF M M' ∧ QRF N N') ∧ M' 0 8 ≤ M 0 8 + 200 := by
  have fx : EFX M (up_ (up_ (up_ M 0 46 s) 0 45 0) 0 47 0) := EFX_tr (EFX_tr (EFX_up (by decide)) (EFX_up (by decide))) (EFX_up (by decide))
  have hD : DST z 0 (M 0 8 + 200) (up_ (up_ (up_ M 0 46 s) 0 45 0) 0 47 0) N s := ⟨RU_ef h fx EFQ_rf, PLr_c hP (XRF_ef fx) QRF_rf, hA, by rw [fx.2 7 (by decide) (by decide) (by decide) (by decide) (by decide)]; exact hs, by rw [upo (by decide), upo (by decide), up_at], ⟨up_at, by decide, by decide⟩, by rw [upo (by decide), up_at], by rw [fx.2 8 (by decide) (by decide) (by decide) (by decide) (by decide)]; omega⟩
  have e11 : up_ (up_ (up_ M 0 46 s) 0 45 0) 0 47 0 11 = M 11 := fx.1 11 (by decide) (by decide)
  have ab := (at_b hP hT).1
  obtain ⟨M', N', x1, q1, r1, t1, f1, b1⟩ := tr_l (x2 := c) (y2 := k) h8 300000 _ N k c 0 (by omega) hD (by rw [e11]) (by rw [swc_e (XRF_ef fx)]; exact hT)
  exact ⟨M', N', fun Qr Qt g => t_23 fun V hV hW => b_23_0 (Tr_mono _) hV hW _ _ _ (x1 V Qr Qt hV hW g), fun Qr Qt g => t_346 fun V hV hW => b_346_0 (Tr_mono _) hV hW _ _ _ (q1 V Qr Qt hV hW g), r1, t1, ⟨XRF_tr (XRF_ef fx) f1.1, f1.2⟩, b1⟩
end TRa
end T369_tr
section T370_so
/-! the run: which stim a signal meets (X 13 | Q 337) -/
def FX (M : mm_) (T st sg y : Int) : Prop := M 101 y = T ∧ M 100 y ≤ 1 ∧ an_ (sr_ (M 102 y) st) 1 ≠ 0 ∧ M 103 y = sg
def FQ (N : mm_) (T st sg k i : Int) : Prop := N 192 k = T ∧ an_ (sr_ (N 194 k) st) 1 ≠ 0 ∧ (N 198 k ≤ i ∧ i < N 199 k) ∧ N 200 i = sg
section SOa
variable {z : Int} {M N M' N' : mm_} {T st sg s k i : Int}
theorem x_13 [Inhabited fz_] (hs : 0 ≤ s ∧ s < 12) (h4 : M 4 4 ≤ 600) (h0 : 0 ≤ M 4 4) : ∃ r, Ex_ 1 13 [.inr (.inr 0), .inl s, .inl sg] M [.inl r] M ∧ (((0 ≤ r ∧ r < M 4 4) ∧ FX M (M 11 s) (M 12 s) sg r) ∨ ((∀ y, 0 ≤ y → y < M 4 4 → ¬ FX M (M 11 s) (M 12 s) sg y) ∧ (((0 ≤ r ∧ r < M 4 4) ∧ FX M (M 11 s) (M 12 s) 200 r) ∨ (r = -1 ∧ ∀ y, 0 ≤ y → y < M 4 4 → ¬ FX M (M 11 s) (M 12 s) 200 y)))) := by
  have lp : ∀ (d : Nat) (y all : Int), y + d = M 4 4 → 0 ≤ y → (∀ x, 0 ≤ x → x < y → ¬ FX M (M 11 s) (M 12 s) sg x) → (((0 ≤ all ∧ all < M 4 4) ∧ FX M (M 11 s) (M 12 s) 200 all) ∨ (all = -1 ∧ ∀ x, 0 ≤ x → x < y → ¬ FX M (M 11 s) (M 12 s) 200 x)) → ∃ r, (∀ (V : vv_) (Qr : qr_) (Qt : qt_), Cl_ wd0 (Tr_ wd0 pg0 0) V Qr Qt m_13 → Wk_ V → Qr [.inl r] M → V 5 [rr 0, ii s, ii sg, ii all, ii y] [] M) ∧ (((0 ≤ r ∧ r < M 4 4) ∧ FX M (M 11 s) (M 12 s) sg r) ∨ ((∀ y, 0 ≤ y → y < M 4 4 → ¬ FX M (M 11 s) (M 12 s) sg y) ∧ (((0 ≤ r ∧ r < M 4 4) ∧ FX M (M 11 s) (M 12 s) 200 r) ∨ (r = -1 ∧ ∀ y, 0 ≤ y → y < M 4 4 → ¬ FX M (M 11 s) (M 12 s) 200 y)))) := by
    intro d
    induction d with
    | zero =>
      intro y all hy y0 h1 h2
      refine ⟨all, fun V Qr Qt hV hW g => b_13_5 (Tr_mono _) hV hW _ _ _ _ _ ?_, .inr ⟨fun x x0 x1 => h1 x x0 (by omega), ?_⟩⟩
      · rw [if_neg (by omega)]; exact g
      · rcases h2 with h | ⟨e, h⟩
        · exact .inl h
        · exact .inr ⟨e, fun x x0 x1 => h x x0 (by omega)⟩
    | succ d ih =>
      intro y all hy y0 h1 h2
      have w1 : w32 (y + 1) = y + 1 := w32_id (by omega) (by omega)
      have nx : ¬ FX M (M 11 s) (M 12 s) sg y → ∀ x, 0 ≤ x → x < y + 1 → ¬ FX M (M 11 s) (M 12 s) sg x := fun hn x x0 x1 => by
        by_cases c : x = y
        · rw [c]; exact hn
        · exact h1 x x0 (by omega)
      have na : ¬ FX M (M 11 s) (M 12 s) 200 y → (((0 ≤ all ∧ all < M 4 4) ∧ FX M (M 11 s) (M 12 s) 200 all) ∨ (all = -1 ∧ ∀ x, 0 ≤ x → x < y + 1 → ¬ FX M (M 11 s) (M 12 s) 200 x)) := fun hn => by
        rcases h2 with h | ⟨e, h⟩
        · exact .inl h
        · refine .inr ⟨e, fun x x0 x1 => ?_⟩
          by_cases c : x = y
          · rw [c]; exact hn
          · exact h x x0 (by omega)
      -- no row of this type, kind, state
      have skip : (¬ (M 101 y = M 11 s ∧ M 100 y ≤ 1 ∧ an_ (sr_ (M 102 y) (M 12 s)) 1 ≠ 0)) → ∃ r, (∀ (V : vv_) (Qr : qr_) (Qt : qt_), Cl_ wd0 (Tr_ wd0 pg0 0) V Qr Qt m_13 → Wk_ V → Qr [.inl r] M → V 5 [rr 0, ii s, ii sg, ii all, ii y] [] M) ∧ (((0 ≤ r ∧ r < M 4 4) ∧ FX M (M 11 s) (M 12 s) sg r) ∨ ((∀ y, 0 ≤ y → y < M 4 4 → ¬ FX M (M 11 s) (M 12 s) sg y) ∧ (((0 ≤ r ∧ r < M 4 4) ∧ FX M (M 11 s) (M 12 s) 200 r) ∨ (r = -1 ∧ ∀ y, 0 ≤ y → y < M 4 4 → ¬ FX M (M 11 s) (M 12 s) 200 y)))) := fun hn => by
        obtain ⟨r, xr, hr⟩ := ih (y + 1) all (by omega) (by omega) (nx (fun h => hn ⟨h.1, h.2.1, h.2.2.1⟩)) (na (fun h => hn ⟨h.1, h.2.1, h.2.2.1⟩))
        refine ⟨r, fun V Qr Qt hV hW g => b_13_5 (Tr_mono _) hV hW _ _ _ _ _ ?_, hr⟩
        have n5 := xr V Qr Qt hV hW g
        rw [if_pos (by omega), w1]
        refine ⟨by omega, hs, ?_⟩
        by_cases k1 : M 101 y = M 11 s
        · rw [if_pos k1]
          refine ⟨by omega, ?_⟩
          by_cases k2 : M 100 y ≤ 1
          · rw [if_pos k2]
            refine ⟨by omega, hs, ?_⟩
            by_cases k3 : an_ (sr_ (M 102 y) (M 12 s)) 1 = 0
            · rw [if_pos k3]; exact n5
            · exact absurd ⟨k1, k2, k3⟩ hn
          · rw [if_neg k2]; exact n5
        · rw [if_neg k1]; exact n5
      by_cases hf : M 101 y = M 11 s ∧ M 100 y ≤ 1 ∧ an_ (sr_ (M 102 y) (M 12 s)) 1 ≠ 0
      · by_cases c1 : M 103 y = sg
        · refine ⟨y, fun V Qr Qt hV hW g => b_13_5 (Tr_mono _) hV hW _ _ _ _ _ ?_, .inl ⟨⟨y0, by omega⟩, hf.1, hf.2.1, hf.2.2, c1⟩⟩
          rw [if_pos (by omega), if_pos hf.1, if_pos hf.2.1, if_neg hf.2.2, if_pos c1]
          exact ⟨by omega, hs, by omega, by omega, hs, by omega, g⟩
        · by_cases c2 : M 103 y = 200
          · obtain ⟨r, xr, hr⟩ := ih (y + 1) y (by omega) (by omega) (nx (fun h => c1 h.2.2.2)) (.inl ⟨⟨y0, by omega⟩, hf.1, hf.2.1, hf.2.2, c2⟩)
            refine ⟨r, fun V Qr Qt hV hW g => b_13_5 (Tr_mono _) hV hW _ _ _ _ _ ?_, hr⟩
            rw [if_pos (by omega), if_pos hf.1, if_pos hf.2.1, if_neg hf.2.2, if_neg c1, if_pos c2, w1]
            exact ⟨by omega, hs, by omega, by omega, hs, by omega, by omega, xr V Qr Qt hV hW g⟩
          · obtain ⟨r, xr, hr⟩ := ih (y + 1) all (by omega) (by omega) (nx (fun h => c1 h.2.2.2)) (na (fun h => c2 h.2.2.2))
            refine ⟨r, fun V Qr Qt hV hW g => b_13_5 (Tr_mono _) hV hW _ _ _ _ _ ?_, hr⟩
            rw [if_pos (by omega), if_pos hf.1, if_pos hf.2.1, if_neg hf.2.2, if_neg c1, if_neg c2, w1]
            exact ⟨by omega, hs, by omega, by omega, hs, by omega, by omega, xr V Qr Qt hV hW g⟩
      · exact skip hf
  obtain ⟨r, xr, hr⟩ := lp (M 4 4).toNat 0 (-1) (by omega) (by decide) (fun x x0 x1 => by omega) (.inr ⟨rfl, fun x x0 x1 => by omega⟩)
  exact ⟨r, fun Qr Qt g => t_13 fun V hV hW => b_13_0 (Tr_mono _) hV hW _ _ _ (xr V Qr Qt hV hW g), hr⟩
theorem q_337 [Inhabited fz_] (h62 : 0 ≤ N 6 62 ∧ N 6 62 ≤ 600) (hr : ∀ k, 0 ≤ k → k < N 6 62 → 0 ≤ N 198 k ∧ N 198 k ≤ N 199 k ∧ N 199 k ≤ 600) : (∃ k i, (0 ≤ k ∧ k < N 6 62) ∧ FQ N T st sg k i ∧ Ex_ 1 337 [.inr (.inr 6), .inl T, .inl st, .inl sg] N [.inl 1] (up_ (up_ N 6 151 k) 6 153 i)) ∨ ((∀ k i, 0 ≤ k → k < N 6 62 → ¬ FQ N T st sg k i) ∧ Ex_ 1 337 [.inr (.inr 6), .inl T, .inl st, .inl sg] N [.inl 0] N) := by
  have inn : ∀ (k : Int), 0 ≤ k → k < N 6 62 → N 192 k = T → an_ (sr_ (N 194 k) st) 1 ≠ 0 → ∀ (d : Nat) (i : Int), i + d = N 199 k → N 198 k ≤ i → (∃ i', FQ N T st sg k i' ∧ ∀ (V : vv_) (Qr : qr_) (Qt : qt_), Cl_ wd0 (Tr_ wd0 pg0 0) V Qr Qt m_337 → Wk_ V → Qr [.inl 1] (up_ (up_ N 6 151 k) 6 153 i') → V 49 [rr 6, ii T, ii st, ii sg, ii k, ii i] [] N) ∨ ((∀ i', i ≤ i' → ¬ FQ N T st sg k i') ∧ RC 0 m_337 49 [rr 6, ii T, ii st, ii sg, ii k, ii i] N 3 [rr 6, ii T, ii st, ii sg, ii (k + 1), none] N) := by
    intro k k0 k1 e1 e2 d
    have b := hr k k0 k1
    induction d with
    | zero =>
      intro i hi i0
      refine .inr ⟨fun i' h' hf => by have := hf.2.2.1.2; omega, fun V Qr Qt hV hW g => b_337_49 (Tr_mono _) hV hW _ _ _ _ _ _ ⟨by omega, ?_⟩⟩
      rw [if_neg (by omega), w32_id (x := k + 1) (by omega) (by omega)]; exact g
    | succ d ih =>
      intro i hi i0
      by_cases c : N 200 i = sg
      · refine .inl ⟨i, ⟨e1, e2, ⟨i0, by omega⟩, c⟩, fun V Qr Qt hV hW g => b_337_49 (Tr_mono _) hV hW _ _ _ _ _ _ ⟨by omega, ?_⟩⟩
        rw [if_pos (by omega), if_pos c]; exact ⟨by omega, .inr rfl, g⟩
      · have st1 : RC 0 m_337 49 [rr 6, ii T, ii st, ii sg, ii k, ii i] N 49 [rr 6, ii T, ii st, ii sg, ii k, ii (i + 1)] N := fun V Qr Qt hV hW g => b_337_49 (Tr_mono _) hV hW _ _ _ _ _ _ ⟨by omega, by
          rw [if_pos (by omega), if_neg c, w32_id (x := i + 1) (by omega) (by omega)]; exact ⟨by omega, g⟩⟩
        rcases ih (i + 1) (by omega) (by omega) with ⟨i', hf, q⟩ | ⟨hn, q⟩
        · exact .inl ⟨i', hf, fun V Qr Qt hV hW g => st1 V Qr Qt hV hW (q V Qr Qt hV hW g)⟩
        · refine .inr ⟨fun i' h' hf => ?_, RC_tr st1 q⟩
          by_cases c2 : i' = i
          · rw [c2] at hf; exact c hf.2.2.2
          · exact hn i' (by omega) hf
  have out : ∀ (d : Nat) (k : Int), k + d = N 6 62 → 0 ≤ k → (∃ k' i', (0 ≤ k' ∧ k' < N 6 62) ∧ FQ N T st sg k' i' ∧ ∀ (V : vv_) (Qr : qr_) (Qt : qt_), Cl_ wd0 (Tr_ wd0 pg0 0) V Qr Qt m_337 → Wk_ V → Qr [.inl 1] (up_ (up_ N 6 151 k') 6 153 i') → V 3 [rr 6, ii T, ii st, ii sg, ii k, none] [] N) ∨ ((∀ k' i', k ≤ k' → k' < N 6 62 → ¬ FQ N T st sg k' i') ∧ ∀ (V : vv_) (Qr : qr_) (Qt : qt_), Cl_ wd0 (Tr_ wd0 pg0 0) V Qr Qt m_337 → Wk_ V → Qr [.inl 0] N → V 3 [rr 6, ii T, ii st, ii sg, ii k, none] [] N) := by
    intro d
    induction d with
    | zero =>
      intro k hk k0
      refine .inr ⟨fun k' i' h1 h2 => by omega, fun V Qr Qt hV hW g => b_337_3 (Tr_mono _) hV hW _ _ _ _ _ ?_⟩
      rw [if_neg (by omega)]; exact ⟨.inl rfl, g⟩
    | succ d ih =>
      intro k hk k0
      have b := hr k k0 (by omega)
      have w1 : w32 (k + 1) = k + 1 := w32_id (by omega) (by omega)
      -- this stim has none
      have no : (∀ i', ¬ FQ N T st sg k i') → RC 0 m_337 3 [rr 6, ii T, ii st, ii sg, ii k, none] N 3 [rr 6, ii T, ii st, ii sg, ii (k + 1), none] N → (∃ k' i', (0 ≤ k' ∧ k' < N 6 62) ∧ FQ N T st sg k' i' ∧ ∀ (V : vv_) (Qr : qr_) (Qt : qt_), Cl_ wd0 (Tr_ wd0 pg0 0) V Qr Qt m_337 → Wk_ V → Qr [.inl 1] (up_ (up_ N 6 151 k') 6 153 i') → V 3 [rr 6, ii T, ii st, ii sg, ii k, none] [] N) ∨ ((∀ k' i', k ≤ k' → k' < N 6 62 → ¬ FQ N T st sg k' i') ∧ ∀ (V : vv_) (Qr : qr_) (Qt : qt_), Cl_ wd0 (Tr_ wd0 pg0 0) V Qr Qt m_337 → Wk_ V → Qr [.inl 0] N → V 3 [rr 6, ii T, ii st, ii sg, ii k, none] [] N) := fun hn st1 => by
        rcases ih (k + 1) (by omega) (by omega) with ⟨k', i', h1, h2, q⟩ | ⟨h1, q⟩
        · exact .inl ⟨k', i', h1, h2, fun V Qr Qt hV hW g => st1 V Qr Qt hV hW (q V Qr Qt hV hW g)⟩
        · refine .inr ⟨fun k' i' g1 g2 hf => ?_, fun V Qr Qt hV hW g => st1 V Qr Qt hV hW (q V Qr Qt hV hW g)⟩
          by_cases c : k' = k
          · rw [c] at hf; exact hn i' hf
          · exact h1 k' i' (by omega) g2 hf
      by_cases c1 : N 192 k = T
      · by_cases c2 : an_ (sr_ (N 194 k) st) 1 = 0
        · refine no (fun i' hf => hf.2.1 c2) (fun V Qr Qt hV hW g => b_337_3 (Tr_mono _) hV hW _ _ _ _ _ ?_)
          rw [if_pos (by omega), if_pos c1, if_pos c2, w1]; exact ⟨by omega, by omega, g⟩
        · have st9 : ∀ (V : vv_) (Qr : qr_) (Qt : qt_), Cl_ wd0 (Tr_ wd0 pg0 0) V Qr Qt m_337 → Wk_ V → V 49 [rr 6, ii T, ii st, ii sg, ii k, ii (N 198 k)] [] N → V 3 [rr 6, ii T, ii st, ii sg, ii k, none] [] N := fun V Qr Qt hV hW g => b_337_3 (Tr_mono _) hV hW _ _ _ _ _ (by
            rw [if_pos (by omega), if_pos c1, if_neg c2]; exact ⟨by omega, by omega, by omega, g⟩)
          rcases inn k k0 (by omega) c1 c2 (N 199 k - N 198 k).toNat (N 198 k) (by omega) (Int.le_refl _) with ⟨i', hf, q⟩ | ⟨hn, q⟩
          · exact .inl ⟨k, i', ⟨k0, by omega⟩, hf, fun V Qr Qt hV hW g => st9 V Qr Qt hV hW (q V Qr Qt hV hW g)⟩
          · exact no (fun i' hf => hn i' hf.2.2.1.1 hf) (fun V Qr Qt hV hW g => st9 V Qr Qt hV hW (q V Qr Qt hV hW g))
      · refine no (fun i' hf => c1 hf.1) (fun V Qr Qt hV hW g => b_337_3 (Tr_mono _) hV hW _ _ _ _ _ ?_)
        rw [if_pos (by omega), if_neg c1, w1]; exact ⟨by omega, g⟩
  rcases out (N 6 62).toNat 0 (by omega) (by decide) with ⟨k, i, h1, h2, q⟩ | ⟨h1, q⟩
  · exact .inl ⟨k, i, h1, h2, fun Qr Qt g => t_337 fun V hV hW => b_337_0 (Tr_mono _) hV hW _ _ _ _ (q V Qr Qt hV hW g)⟩
  · exact .inr ⟨h1, fun Qr Qt g => t_337 fun V hV hW => b_337_0 (Tr_mono _) hV hW _ _ _ _ (q V Qr Qt hV hW g)⟩
end SOa
end T370_so
section T371_sm
/-! the run: X's rows and Q's stims -/
section SMa
variable {z : Int} {M N M' N' : mm_} {T st sg s k i y j : Int}
/-- what a row is -/
def ROWk (M N : mm_) (k j y : Int) : Prop := (0 ≤ k ∧ k < N 6 62) ∧ (0 ≤ j ∧ j < nsK (tbN N) k) ∧ y = xsf (tbN N) k.toNat + j
theorem nsK_e [Inhabited fz_] : nsK (tbN N) k = if N 193 k < 2 then N 199 k - N 198 k else 1 := by
  unfold nsK; rw [tbN_r (q := 193) (by decide) (by decide), tbN_r (q := 199) (by decide) (by decide), tbN_r (q := 198) (by decide) (by decide)]
theorem ps_b [Inhabited fz_] (hP : PLr M N) : (0 ≤ N 6 62 ∧ N 6 62 ≤ 600) ∧ (xsf (tbN N) (N 6 62).toNat = M 4 4 ∧ M 4 4 ≤ 600) ∧ ∀ k, 0 ≤ k → k < N 6 62 → (0 ≤ N 192 k ∧ N 192 k < 6) ∧ (0 ≤ N 193 k ∧ N 193 k ≤ 3) ∧ (0 ≤ N 198 k ∧ N 198 k ≤ N 199 k ∧ N 199 k ≤ 600) ∧ (2 ≤ N 193 k → N 199 k = N 198 k) := by
  have h := hP.2.2.2.1
  unfold PST at h
  rw [tbN_6 (i := 62) (by decide), tbN_6 (i := 63) (by decide), swc_5, tbN_r (q := 192) (by decide) (by decide), tbN_r (q := 193) (by decide) (by decide), tbN_r (q := 198) (by decide) (by decide), tbN_r (q := 199) (by decide) (by decide)] at h
  refine ⟨⟨h.1.1, h.1.2.2.2.1⟩, ⟨h.1.2.1, h.1.2.2.1⟩, fun k k0 k1 => ?_⟩
  obtain ⟨a1, a2, a3, a4⟩ := (h.2 k k0 k1).1
  exact ⟨a1, a2, ⟨a3.1, a3.2.1, by have := h.1.2.2.2.2; omega⟩, a4⟩
theorem row_f [Inhabited fz_] (hP : PLr M N) (hr : ROWk M N k j y) : (M 100 y = N 193 k ∧ M 101 y = N 192 k ∧ MB (M 90 (N 192 k)) (M 102 y) (N 194 k) ∧ (N 193 k < 2 → M 103 y = N 200 (N 198 k + j))) ∧ SRO (swc M) (tbN N) k y (N 198 k + j) := by
  obtain ⟨hk, hj, e⟩ := hr
  have h := (hP.2.2.2.1.2 k hk.1 (by rw [tbN_6 (by decide)]; exact hk.2)).2 j hj.1 hj.2
  rw [← e] at h
  rw [show swc M 133 = M 100 from swc_r (q := 100) (by decide) (by decide), show swc M 134 = M 101 from swc_r (q := 101) (by decide) (by decide), show swc M 135 = M 102 from swc_r (q := 102) (by decide) (by decide), show swc M 136 = M 103 from swc_r (q := 103) (by decide) (by decide), show swc M 123 = M 90 from swc_r (q := 90) (by decide) (by decide), tbN_r (q := 192) (by decide) (by decide), tbN_r (q := 193) (by decide) (by decide), tbN_r (q := 194) (by decide) (by decide), tbN_r (q := 198) (by decide) (by decide), tbN_r (q := 200) (by decide) (by decide)] at h
  exact h
/-- every row is one of a stim -/
theorem row_c [Inhabited fz_] (hP : PLr M N) : ∀ (n : Nat) (y : Int), (n : Int) ≤ N 6 62 → 0 ≤ y → y < xsf (tbN N) n → ∃ k j, ROWk M N k j y
  | 0, y, _, y0, y1 => by unfold xsf at y1; omega
  | n + 1, y, hn, y0, y1 => by
    by_cases c : y < xsf (tbN N) n
    · exact row_c hP n y (by omega) y0 c
    · unfold xsf at y1
      exact ⟨n, y - xsf (tbN N) n, by omega, by omega, by rw [show ((n : Int)).toNat = n by omega]; omega⟩
theorem xsfm [Inhabited fz_] (hP : PLr M N) : ∀ (n : Nat), (n : Int) ≤ N 6 62 → 0 ≤ xsf (tbN N) n
  | 0, _ => by unfold xsf; exact Int.le_refl _
  | n + 1, hn => by
    have := xsfm hP n (by omega)
    have b := (ps_b hP).2.2 n (by omega) (by omega)
    unfold xsf
    rw [nsK_e]; split <;> omega
theorem row_b [Inhabited fz_] (hP : PLr M N) (hr : ROWk M N k j y) : 0 ≤ y ∧ y < M 4 4 := by
  obtain ⟨hk, hj, e⟩ := hr
  have b := ps_b hP
  have mono : ∀ (d n : Nat), ((n + d : Nat) : Int) ≤ N 6 62 → xsf (tbN N) n ≤ xsf (tbN N) (n + d) := fun d => by
    induction d with
    | zero => intro n _; exact Int.le_refl _
    | succ d ih =>
      intro n hn
      have := ih n (by omega)
      have b9 := b.2.2 ((n + d : Nat) : Int) (by omega) (by omega)
      show xsf (tbN N) n ≤ xsf (tbN N) (n + d) + nsK (tbN N) ((n + d : Nat) : Int)
      rw [nsK_e]; split <;> omega
  have m := mono ((N 6 62).toNat - (k.toNat + 1)) (k.toNat + 1) (by omega)
  rw [show k.toNat + 1 + ((N 6 62).toNat - (k.toNat + 1)) = (N 6 62).toNat by omega, b.2.1.1] at m
  have e1 : xsf (tbN N) (k.toNat + 1) = xsf (tbN N) k.toNat + nsK (tbN N) k := by
    show xsf (tbN N) k.toNat + nsK (tbN N) ((k.toNat : Nat) : Int) = _
    rw [show ((k.toNat : Nat) : Int) = k by omega]
  have := xsfm hP k.toNat (by omega)
  omega
/-- a row and a stim fit together -/
theorem row_q [Inhabited fz_] (hP : PLr M N) (hr : ROWk M N k j y) (hst : 0 ≤ st ∧ st < M 90 T ∧ st < 31) : FX M T st sg y ↔ (N 193 k < 2 ∧ FQ N T st sg k (N 198 k + j)) := by
  obtain ⟨⟨f1, f2, f3, f4⟩, _⟩ := row_f hP hr
  obtain ⟨hk, hj, e⟩ := hr
  rw [nsK_e] at hj
  have bX := an_sr (c := M 102 y) (s := st) f3.1.1 (by have := f3.1.2; omega) hst.1 hst.2.2
  have bQ := an_sr (c := N 194 k) (s := st) f3.2.1.1 (by have := f3.2.1.2; omega) hst.1 hst.2.2
  have mb := f3.2.2 st hst.1
  unfold FX FQ
  rw [f1, f2]
  constructor
  · rintro ⟨a1, a2, a3, a4⟩
    have l2 : N 193 k < 2 := by omega
    rw [if_pos l2] at hj
    refine ⟨l2, a1, fun e0 => ?_, by omega, by rw [← f4 l2]; exact a4⟩
    have : bt_ (M 102 y) st := by
      by_cases c : bt_ (M 102 y) st
      · exact c
      · exact absurd (bX.1.2 c) a3
    exact bQ.1.1 e0 (mb.1 this).1
  · rintro ⟨l2, a1, a2, a3, a4⟩
    refine ⟨a1, by omega, fun e0 => ?_, by rw [f4 l2]; exact a4⟩
    have : bt_ (N 194 k) st := by
      by_cases c : bt_ (N 194 k) st
      · exact c
      · exact absurd (bQ.1.2 c) a2
    exact bX.1.1 e0 (mb.2 ⟨this, by rw [a1]; exact hst.2.1⟩)
/-- at most one row fits -/
theorem row_u [Inhabited fz_] (hP : PLr M N) {y' : Int} (hst : 0 ≤ st ∧ st < 31) (h0 : 0 ≤ y ∧ y < M 4 4) (h1 : 0 ≤ y' ∧ y' < M 4 4) (hy : FX M T st sg y) (hy' : FX M T st sg y') : y = y' := by
  have b := ps_b hP
  have key : ∀ a c, 0 ≤ a → a < c → c < M 4 4 → FX M T st sg a → FX M T st sg c → False := fun a c a0 ac c1 fa fc => by
    obtain ⟨k, j, hr⟩ := row_c hP (N 6 62).toNat c (by omega) (by omega) (by rw [b.2.1.1]; exact c1)
    obtain ⟨⟨f1, f2, f3, f4⟩, sro⟩ := row_f hP hr
    obtain ⟨k', j', hr'⟩ := row_c hP (N 6 62).toNat a (by omega) (by omega) (by rw [b.2.1.1]; omega)
    obtain ⟨⟨g1, g2, g3, g4⟩, _⟩ := row_f hP hr'
    have l2 : N 193 k < 2 := by have := fc.2.1; omega
    have u := (sro.2.2.2 (by rw [tbN_r (q := 193) (by decide) (by decide)]; exact l2)).1 a a0 ac
    rw [show swc M 133 = M 100 from swc_r (q := 100) (by decide) (by decide), show swc M 134 = M 101 from swc_r (q := 101) (by decide) (by decide), show swc M 135 = M 102 from swc_r (q := 102) (by decide) (by decide), show swc M 136 = M 103 from swc_r (q := 103) (by decide) (by decide)] at u
    refine u ⟨by rw [fa.1, fc.1], by have := fa.2.1; omega, by rw [fa.2.2.2, fc.2.2.2], fun e0 => ?_⟩
    have bA := an_sr (c := M 102 a) (s := st) g3.1.1 (by have := g3.1.2; omega) hst.1 hst.2
    have bC := an_sr (c := M 102 c) (s := st) f3.1.1 (by have := f3.1.2; omega) hst.1 hst.2
    have ba : bt_ (M 102 a) st := by
      by_cases q : bt_ (M 102 a) st
      · exact q
      · exact absurd (bA.1.2 q) fa.2.2.1
    have bc : bt_ (M 102 c) st := by
      by_cases q : bt_ (M 102 c) st
      · exact q
      · exact absurd (bC.1.2 q) fc.2.2.1
    haveI : Inhabited gh_ := ih_ 0 (fun _ => 0) 0 0
    have ab := (an_bt (x := M 102 a) (y := M 102 c) ⟨g3.1.1, by have := g3.1.2; omega⟩ ⟨f3.1.1, by have := f3.1.2; omega⟩).2 st hst.1
    have := ab.2 ⟨ba, bc⟩
    rw [e0] at this
    unfold bt_ at this
    simp at this
  rcases Int.lt_trichotomy y y' with l | l | l
  · exact (key y y' h0.1 l h1.2 hy hy').elim
  · exact l
  · exact (key y' y h1.1 l h0.2 hy' hy).elim
end SMa
end T371_sm
