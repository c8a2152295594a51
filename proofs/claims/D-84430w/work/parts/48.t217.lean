section T217_ln
/-! lines of states: the loop (X 167 V 172 | Q 304 V 70) -/
def lnT (κ ν : Int → Int) (lm : Int → Int → Bool) (s : sj_) : Option (sj_ ⊕ sj_) :=
  if κ s.1 = 7 then (ipS κ lm s).bind fun r => some (.inl r) else if κ s.1 = 8 then (svS κ s.1).bind fun a => some (.inl (a, s.2)) else if κ s.1 = 9 then (whS κ ν lm s).bind fun r => some (.inl r) else if κ s.1 = 10 then (noS κ lm s).bind fun r => some (.inl r) else some (.inr s)
def LNS (κ ν : Int → Int) (lm : Int → Int → Bool) (s : sj_) : Option sj_ := LQ (lnT κ ν lm) s
section LSz
variable {κ ν : Int → Int} {lm : Int → Int → Bool} {a j : Int} {s r : sj_}
theorem bind_s [Inhabited gh_] {α β : Type} {X : Option α} {f : α → Option β} {r : β} (h : X.bind f = some r) : ∃ x, X = some x ∧ f x = some r := by
  cases X with
  | none => cases h
  | some x => exact ⟨x, rfl, h⟩
theorem pS_s [Inhabited gh_] (h0 : 0 ≤ a) (h1 : a ≤ 1200) (h : ((tS κ 259 a).bind fun a4 => PTj κ lm 12 (a4, j)) = some r) : a + 1 ≤ r.1 ∧ r.1 ≤ 1200 := by
  obtain ⟨x, e1, e2⟩ := bind_s h
  have t := tS_s e1
  have := (jw_PTj 12).1 (x, j) r (show (0 : Int) ≤ x by omega) (show x ≤ 1200 by (clear h e1 e2; omega)) e2
  have : x ≤ r.1 ∧ r.1 ≤ 1200 := this
  omega
theorem noS_s [Inhabited gh_] (h0 : 0 ≤ s.1) (h1 : s.1 ≤ 1200) (h : noS κ lm s = some r) : s.1 + 1 ≤ r.1 ∧ r.1 ≤ 1200 := by
  unfold noS at h
  obtain ⟨x, e1, e2⟩ := bind_s h
  have g := gS_s e1
  have := pS_s (by (clear h e1 e2; omega)) (by omega) e2
  omega
theorem ES_s [Inhabited gh_] {o a r : Int} (h0 : 0 ≤ a) (h1 : a ≤ 1200) (h : ES κ 0 o a = some r) : a + 1 ≤ r ∧ r ≤ 1200 := inc_e (κ := κ) a r h0 h1 h
theorem prS_s [Inhabited gh_] {r : Int} (h0 : 0 ≤ a) (h1 : a ≤ 1200) (h : prS κ ν a = some r) : a ≤ r ∧ r ≤ 1200 := by
  unfold prS at h
  split at h
  · obtain ⟨x, e1, e2⟩ := bind_s h
    have g := gS_s e1
    unfold cnS at e2
    split at e2
    · have := gS_s e2; omega
    · cases e2
  · injection h with h; omega
theorem whS_s [Inhabited gh_] (h0 : 0 ≤ s.1) (h1 : s.1 ≤ 1200) (h : whS κ ν lm s = some r) : s.1 + 1 ≤ r.1 ∧ r.1 ≤ 1200 := by
  unfold whS at h
  obtain ⟨x, e1, h⟩ := bind_s h
  have g := gS_s e1
  obtain ⟨y, e2, h⟩ := bind_s h
  have g2 := ES_s (by omega) (by omega) e2
  obtain ⟨z, e3, h⟩ := bind_s h
  have g3 := prS_s (by omega) (by omega) e3
  have := pS_s (by omega) (by omega) h
  (clear h0 h1 e1 e2 e3 h; omega)
theorem NL_s [Inhabited gh_] : ∀ {a r : Int}, 0 ≤ a → a ≤ 1200 → NL κ a = some r → a + 1 ≤ r ∧ r ≤ 1200 := fun {a r} h0 h1 h => by
  have := lpS_r (step := nlT κ) (fun s => s) (fun s s' => nlT_l s s') (fun s a h0 h1 h => by
    unfold nlT at h
    obtain ⟨x, e1, h⟩ := bind_s h
    have t := tS_s e1
    split at h
    · obtain ⟨y, e2, h⟩ := bind_s h
      injection h with h; cases h
    · injection h with h; injection h with h; omega) 1300 a r h0 h1 h
  have e := NL_e (κ := κ) h0 h1
  rw [h] at e
  obtain ⟨x, e1, e2⟩ := bind_s e.symm
  have t := tS_s e1
  split at e2
  · obtain ⟨y, e3, e4⟩ := bind_s e2
    have g := gS_s e3
    have := lpS_r (step := nlT κ) (fun s => s) (fun s s' => nlT_l s s') (fun s a h0 h1 h => by
      unfold nlT at h
      obtain ⟨x, e1, h⟩ := bind_s h
      have t := tS_s e1
      split at h
      · obtain ⟨y, e2, h⟩ := bind_s h
        injection h with h; cases h
      · injection h with h; injection h with h; (clear this e e2 e3 e4 g e1; omega)) 1300 y r (by (clear h this e e1 e2 e3 e4; lia)) (by (clear h this e e1 e2 e3 e4; omega)) e4
    omega
  · injection e2 with e2; omega
theorem svS_s [Inhabited gh_] {r : Int} (h0 : 0 ≤ a) (h1 : a ≤ 1200) (h : svS κ a = some r) : a + 1 ≤ r ∧ r ≤ 1200 := by
  unfold svS at h
  obtain ⟨x, e1, h⟩ := bind_s h
  have g := gS_s e1
  obtain ⟨y, e2, h⟩ := bind_s h
  have t := tS_s h
  split at e2
  · have := gS_s e2; omega
  · have := NL_s (by omega) (by (clear e1 h t e2; omega)) e2; omega
theorem IL_s [Inhabited gh_] {r : Int} (h0 : 0 ≤ a) (h1 : a ≤ 1200) (h : IL κ a = some r) : a ≤ r ∧ r ≤ 1200 := lpS_r (step := ilT κ) (fun s => s) (fun s s' => ilT_l s s') (fun s a h0 h1 h => by
  unfold ilT at h
  obtain ⟨x, e1, h⟩ := bind_s h
  have t := inS_s h0 h1 e1
  split at h
  · obtain ⟨y, e2, h⟩ := bind_s h
    injection h with h; cases h
  · injection h with h; injection h with h; omega) 1300 a r h0 h1 h
theorem ipS_s [Inhabited gh_] (h0 : 0 ≤ s.1) (h1 : s.1 ≤ 1200) (h : ipS κ lm s = some r) : s.1 + 1 ≤ r.1 ∧ r.1 ≤ 1200 := by
  unfold ipS at h
  obtain ⟨x, e1, h⟩ := bind_s h
  have g := gS_s e1
  obtain ⟨y, e2, h⟩ := bind_s h
  have g2 := IL_s (by omega) (by omega) e2
  obtain ⟨z, e3, h⟩ := bind_s h
  have g3 : y ≤ z ∧ z ≤ 1200 := by
    unfold ifS at e3
    split at e3
    · obtain ⟨u, e4, e5⟩ := bind_s e3
      have := gS_s e4
      have := ES_s (by (clear e1 e2 h e3 e4 e5; omega)) (by omega) e5; (clear h0 h1 e1 g e2 g2 h e3 e4 e5; omega)
    · injection e3 with e3; (clear h0 h1 e1 g e2 h; omega)
  have := pS_s (by omega) (by omega) h
  omega
theorem lnT_l [Inhabited gh_] (s s' : sj_) (h0 : 0 ≤ s.1) (h1 : s.1 ≤ 1200) (h : lnT κ ν lm s = some (.inl s')) : s.1 + 1 ≤ s'.1 ∧ s'.1 ≤ 1200 := by
  unfold lnT at h
  split at h
  · obtain ⟨x, e, h⟩ := bind_s h
    injection h with h; injection h with h; rw [← h]; exact ipS_s h0 h1 e
  · split at h
    · obtain ⟨x, e, h⟩ := bind_s h
      injection h with h; injection h with h; rw [← h]; exact svS_s h0 h1 e
    · split at h
      · obtain ⟨x, e, h⟩ := bind_s h
        injection h with h; injection h with h; rw [← h]; exact whS_s h0 h1 e
      · split at h
        · obtain ⟨x, e, h⟩ := bind_s h
          injection h with h; injection h with h; rw [← h]; exact noS_s h0 h1 e
        · injection h with h; cases h
theorem LNS_u [Inhabited gh_] (h0 : 0 ≤ a) (h1 : a ≤ 1200) : LNS κ ν lm (a, j) = (lnT κ ν lm (a, j)).bind (lk9 (LNS κ ν lm)) := LQ_u (step := lnT κ ν lm) (fun s => s.1) (fun s s' => lnT_l s s') (s := (a, j)) h0 h1
theorem LNS_y [Inhabited gh_] {L : sj_ → Option sj_} {X : Option sj_} (hX : lnT κ ν lm (a, j) = X.bind fun r => some (.inl r)) : (lnT κ ν lm (a, j)).bind (lk9 L) = X.bind L := by
  rw [hX]
  cases X with
  | none => rfl
  | some x => rfl
theorem LNS_7 [Inhabited gh_] (h0 : 0 ≤ a) (h1 : a ≤ 1200) (hk : κ a = 7) : LNS κ ν lm (a, j) = (ipS κ lm (a, j)).bind (LNS κ ν lm) := (LNS_u h0 h1).trans (LNS_y (by unfold lnT; rw [if_pos hk]))
theorem LNS_8 [Inhabited gh_] (h0 : 0 ≤ a) (h1 : a ≤ 1200) (hk : κ a = 8) : LNS κ ν lm (a, j) = ((svS κ a).bind fun x => some (x, j)).bind (LNS κ ν lm) := (LNS_u h0 h1).trans (LNS_y (by
  unfold lnT; rw [if_neg (by show ¬ κ a = 7; omega), if_pos hk]
  cases svS κ a with
  | none => rfl
  | some x => rfl))
theorem LNS_9 [Inhabited gh_] (h0 : 0 ≤ a) (h1 : a ≤ 1200) (hk : κ a = 9) : LNS κ ν lm (a, j) = (whS κ ν lm (a, j)).bind (LNS κ ν lm) := (LNS_u h0 h1).trans (LNS_y (by unfold lnT; rw [if_neg (by show ¬ κ a = 7; omega), if_neg (by show ¬ κ a = 8; omega), if_pos hk]))
theorem LNS_10 [Inhabited gh_] (h0 : 0 ≤ a) (h1 : a ≤ 1200) (hk : κ a = 10) : LNS κ ν lm (a, j) = (noS κ lm (a, j)).bind (LNS κ ν lm) := (LNS_u h0 h1).trans (LNS_y (by unfold lnT; rw [if_neg (by show ¬ κ a = 7; (clear h0 h1; lia)), if_neg (by show ¬ κ a = 8; omega), if_neg (by show ¬ κ a = 9; omega), if_pos hk]))
theorem LNS_0 [Inhabited gh_] (h0 : 0 ≤ a) (h1 : a ≤ 1200) (hk : κ a < 7 ∨ 10 < κ a) : LNS κ ν lm (a, j) = some (a, j) := by
  have e : lnT κ ν lm (a, j) = some (.inr (a, j)) := by unfold lnT; rw [if_neg (by show ¬ κ a = 7; omega), if_neg (by show ¬ κ a = 8; omega), if_neg (by show ¬ κ a = 9; omega), if_neg (by show ¬ κ a = 10; omega)]
  rw [LNS_u h0 h1, e]; rfl
end LSz
end T217_ln
section T218_ln
/-! lines of states: the loop, walked -/
def q70 (dq : Nat) (mask x2 : Int) (N : mm_) (G : mm_ → Prop) (Qt : qt_) : Prop := ∀ V : vv_, Cl_ wd0 (Tr_ wd0 pg0 (dq + 17)) V (rv_ G) Qt m_304 → Wk_ V → V 70 [rr 6, ii mask, ii x2, none] [] N
section LT
variable {dq : Nat} {b : Int} {mask : Int} {Kv G : mm_ → Prop} {Qt Qtq : qt_} {V : vv_} {N : mm_}
theorem q70_s [Inhabited gh_] {V' : vv_} {x2 : Int} (hV : Cl_ wd0 (Tr_ wd0 pg0 (dq + 17)) V' (rv_ G) Qtq m_304) (hW : Wk_ V') (hs : sp_ N) (h : G N) : V' 70 [rr 6, ii mask, ii x2, none] [] N := by
  refine b_304_70 (Tr_mono _) hV hW _ _ _ ?_
  by_cases c : x2 = 0
  · rw [if_pos c]; exact rv_i h
  · rw [if_neg c]; exact q_227s hs (by rw [if_neg (by decide)]; exact rv_i h)
theorem Tr_ri [Inhabited gh_] {d m : Nat} {as : List pv_} {M : mm_} {K K' : Int → mm_ → Prop} (h : Tr_ wd0 pg0 d m as M (ri_ K) Qt) (hk : ∀ v M', K v M' → K' v M') : Tr_ wd0 pg0 d m as M (ri_ K') Qt := Tr_mono _ _ _ _ _ _ _ _ (fun vs M' ⟨x, e, k⟩ => ⟨x, e, hk x M' k⟩) (fun _ _ h => h) h
theorem l_172 [Inhabited gh_] (hV : Cl_ wd0 (Tr_ wd0 pg0 129) V (rv_ Kv) Qt m_167) (hW : Wk_ V) :
    ∀ (n : Nat) (a F : Int) (Mx Mq : mm_), 1201 - a ≤ (n : Int) → SS b F Mx Mq a mask 0 → (b = 1 → LNS (Mx 70) (Mx 73) (LMT Mx) (a, lc_ b Mx) ≠ none) →
    (∀ F' M' N' a', SS b F' M' N' a' mask 0 → a ≤ a' → PRS b Mx Mq M' N' → LNF b F F' Mx Mq M' N' → (M' 70 a' < 7 ∨ 10 < M' 70 a') → (∀ lm, LOK b lm Mx M' → LNS (Mx 70) (Mx 73) lm (a, lc_ b Mx) = some (a', lc_ b M')) → (∀ (G : mm_ → Prop) (Qtq : qt_), G N' → q70 dq mask 1 Mq G Qtq) → Kv M') →
    (b = 0 → ∀ Mx', XSb Mx Mx' → (∀ (G : mm_ → Prop) (Qtq : qt_), (∀ M', SQb Mx' Mq M' → G M') → q70 dq mask 1 Mq G Qtq) → Qt 8 Mx') →
    V 172 [rr 1, ii 1, none, none] [] Mx
  | 0, a, F, Mx, Mq, hn, h, _, _, _ => by have := ER_a (TS_E h.1); omega
  | n + 1, a, F, Mx, Mq, hn, h, hS, hK, hQ => by
    have hE := TS_E h.1
    have hT := h.1.1.1
    have ha := ER_a hE
    have go := ER_goq hE
    -- one line more
    have next : ∀ (F' : Int) (M9 N9 : mm_) (a9 : Int) (S : (Int → Int → Bool) → Option sj_), SS b F' M9 N9 a9 mask 0 → a + 1 ≤ a9 → PRS b Mx Mq M9 N9 → LNF b F F' Mx Mq M9 N9 → (∀ lm, LNS (Mx 70) (Mx 73) lm (a, lc_ b Mx) = (S lm).bind (LNS (Mx 70) (Mx 73) lm)) → (∀ lm, LOK b lm Mx M9 → S lm = some (a9, lc_ b M9)) → (∀ (G : mm_ → Prop) (Qtq : qt_), q70 dq mask 1 N9 G Qtq → q70 dq mask 1 Mq G Qtq) → V 172 [rr 1, ii 1, none, none] [] M9 := fun F' M9 N9 a9 S S9 ha9 P9 L9 eS sy q9 => by
      have x70 : M9 70 = Mx 70 := L9.1.1 70 (by decide)
      have x73 : M9 73 = Mx 73 := L9.1.1 73 (by decide)
      refine l_172 hV hW n a9 F' M9 N9 (by (clear hV hW h hS hK hQ hE hT ha go S9 P9 L9 eS sy q9 x70 x73; omega)) S9 (fun hb => ?_) (fun F2 M' N' a' SS' ha' P' L' h7 sy' hq' => ?_) (fun hb Mx' hx hq => ?_)
      · have h9 := hS hb
        have ok : LOK b (LMT Mx) Mx M9 := ⟨fun hb0 => by omega, fun _ => rfl⟩
        rw [eS, sy _ ok, Option.bind_some] at h9
        rw [x70, x73, L9.2.2.1.2.2.2 hb]; exact h9
      · refine hK F2 M' N' a' SS' (by omega) (PRS_tr (fun hb => SS_SCL h hb) (fun hb => SS_SCL S9 hb) P9 P') (LNF_tr L9 L') h7 (fun lm hlm => ?_) (fun G Qtq hg => q9 G Qtq (hq' G Qtq hg))
        have l := LOK_s L9.2.2.1 L'.2.2.1 hlm
        have e := sy' lm l.2
        rw [x70, x73] at e
        rw [eS, sy lm l.1, Option.bind_some]; exact e
      · exact hQ hb Mx' (XSb_tr L9.1 hx) (fun G Qtq hg => q9 G Qtq (hq G Qtq fun M' p => hg _ ⟨p.1, p.2.1, p.2.2.1, p.2.2.2.1, QSb_tr L9.2.1 p.2.2.2.2⟩))
    have toQ : ∀ {G : mm_ → Prop} {Qtq : qt_}, (∀ V' : vv_, Cl_ wd0 (Tr_ wd0 pg0 (dq + 17)) V' (rv_ G) Qtq m_304 → Wk_ V' → Tr_ wd0 pg0 (dq + 17) 228 [.inr (.inr 6), .inl 7] Mq (ri_ fun v2 M2 =>
     (if v2 = 0 then
      Tr_ wd0 pg0 (dq + 17) 228 [.inr (.inr 6), .inl 8] M2 (ri_ fun v3 M3 =>
       (if v3 = 0 then
        Tr_ wd0 pg0 (dq + 17) 228 [.inr (.inr 6), .inl 9] M3 (ri_ fun v4 M4 =>
         (if v4 = 0 then
          Tr_ wd0 pg0 (dq + 17) 228 [.inr (.inr 6), .inl 10] M4 (ri_ fun v5 M5 =>
           (if v5 = 0 then
            V' 70 [rr 6, ii mask, ii 0, none] [] M5
           else
            Tr_ wd0 pg0 (dq + 17) 244 [.inr (.inr 6), .inl 59] M5 (rv_ fun M6 =>
             Tr_ wd0 pg0 (dq + 17) 307 [.inr (.inr 6), .inl 3, .inl mask] M6 (ri_ fun v6 M7 =>
              Tr_ wd0 pg0 (dq + 17) 260 [.inr (.inr 6), .inl 0, .inl mask] M7 (rv_ fun M8 =>
               Tr_ wd0 pg0 (dq + 17) 314 [.inr (.inr 6), .inl v6] M8 (rv_ fun M9 =>
                V' 70 [rr 6, ii mask, ii 1, none] [] M9) Qtq) Qtq) Qtq) Qtq)) Qtq
         else
          Tr_ wd0 pg0 (dq + 17) 313 [.inr (.inr 6), .inl mask] M4 (rv_ fun M10 =>
           V' 70 [rr 6, ii mask, ii 1, none] [] M10) Qtq)) Qtq
       else
        Tr_ wd0 pg0 (dq + 17) 312 [.inr (.inr 6), .inl mask] M3 (rv_ fun M11 =>
         V' 70 [rr 6, ii mask, ii 1, none] [] M11) Qtq)) Qtq
     else
      Tr_ wd0 pg0 (dq + 17) 306 [.inr (.inr 6), .inl mask] M2 (rv_ fun M12 =>
       V' 70 [rr 6, ii mask, ii 1, none] [] M12) Qtq)) Qtq) → q70 dq mask 1 Mq G Qtq := fun hq V' hV' hW' => by
      refine b_304_70 (Tr_mono _) hV' hW' _ _ _ ?_
      rw [if_neg (by decide)]
      refine q_227g go ?_
      rw [if_pos rfl]
      exact hq V' hV' hW'
    refine b_167_172 (Tr_mono _) hV hW _ _ ?_
    rw [if_neg (by decide)]
    refine y_103 hE (fun c7 => ?_) (fun c7 => ?_)
    · -- INPUT
      rw [if_neg (by decide)]
      have eS : ∀ lm, LNS (Mx 70) (Mx 73) lm (a, lc_ b Mx) = (ipS (Mx 70) lm (a, lc_ b Mx)).bind (LNS (Mx 70) (Mx 73) lm) := fun lm => LNS_7 ha.1 ha.2 c7
      have toI : ∀ (G : mm_ → Prop) (Qtq : qt_), (∀ V' : vv_, Cl_ wd0 (Tr_ wd0 pg0 (dq + 17)) V' (rv_ G) Qtq m_304 → Wk_ V' → qIN dq mask Mq (fun M12 => V' 70 [rr 6, ii mask, ii 1, none] [] M12) Qtq) → q70 dq mask 1 Mq G Qtq := fun G Qtq hq => toQ fun V' hV' hW' => Tr_ri (hq V' hV' hW') (fun v M2 k => by
        by_cases c : v = 0
        · rw [if_pos c] at k; exact k.elim
        · rw [if_neg c] at k ⊢; exact k)
      refine y_168 (dq := dq) h c7 (fun hb => by have := hS hb; rw [eS] at this; exact bind_n this) (fun F' M9 N9 a9 S9 ha9 W sy hq => ?_) (fun hb Mx' hx hq => ?_)
      · exact next F' M9 N9 a9 _ S9 (by omega) (P_input h W) (LF_input W) eS sy (fun G Qtq hg => toI G Qtq fun V' hV' hW' => hq _ _ (hg V' hV' hW'))
      · exact hQ hb Mx' hx (fun G Qtq hg => toI G Qtq fun V' hV' hW' => hq _ _ fun M' p => q70_s hV' hW' p.1 (hg _ p))
    rw [if_pos rfl]
    refine y_103 hE (fun c8 => ?_) (fun c8 => ?_)
    · -- SAVE
      rw [if_neg (by decide)]
      have eS : ∀ lm, LNS (Mx 70) (Mx 73) lm (a, lc_ b Mx) = ((svS (Mx 70) a).bind fun x => some (x, lc_ b Mx)).bind (LNS (Mx 70) (Mx 73) lm) := fun lm => LNS_8 ha.1 ha.2 c8
      have toI : ∀ (G : mm_ → Prop) (Qtq : qt_), (∀ V' : vv_, Cl_ wd0 (Tr_ wd0 pg0 (dq + 17)) V' (rv_ G) Qtq m_304 → Wk_ V' → qSV dq mask Mq (fun M12 => V' 70 [rr 6, ii mask, ii 1, none] [] M12) Qtq) → q70 dq mask 1 Mq G Qtq := fun G Qtq hq => toQ fun V' hV' hW' => j_228f hT hE (by decide) c7 (by
        rw [if_pos rfl]
        refine Tr_ri (hq V' hV' hW') (fun v M2 k => ?_)
        by_cases c : v = 0
        · rw [if_pos c] at k; exact k.elim
        · rw [if_neg c] at k ⊢; exact k)
      refine y_175 (dq := dq) h c8 (fun hb => by have := hS hb; rw [eS] at this; exact bind_n (bind_n this)) (fun M' N' a' S9 ha9 G9 sy hq => ?_) (fun hb Mx' hx hq => ?_)
      · have L9 := LF_save (F := F) (b := b) G9
        have lce : lc_ b (nX_ M') = lc_ b Mx := by
          unfold lc_
          rw [nX_ne (r := 128) (by decide), nX_1 (i := 18) (by decide), nX_1 (i := 19) (by decide), G9.1.1 128 (by decide), G9.1.2.1 18 (by decide), G9.1.2.1 19 (by decide), nX_ne (r := 128) (by decide), nX_1 (i := 18) (by decide), nX_1 (i := 19) (by decide)]
        exact next F (nX_ M') (nx_ (nE_ N')) (a' + 1) _ S9 (by (clear hV hW hn h hS hK hQ hE hT ha go next toQ c7 c8 eS toI S9 G9 sy hq L9 lce; lia)) (P_save h G9) L9 eS (fun lm _ => by rw [sy, Option.bind_some, lce]) (fun G Qtq hg => toI G Qtq fun V' hV' hW' => hq _ _ (hg V' hV' hW'))
      · exact hQ hb Mx' hx (fun G Qtq hg => toI G Qtq fun V' hV' hW' => hq _ _ fun M' p => q70_s hV' hW' p.1 (hg _ p))
    rw [if_pos rfl]
    refine y_103 hE (fun c9 => ?_) (fun c9 => ?_)
    · -- WHEN
      rw [if_neg (by decide)]
      have eS : ∀ lm, LNS (Mx 70) (Mx 73) lm (a, lc_ b Mx) = (whS (Mx 70) (Mx 73) lm (a, lc_ b Mx)).bind (LNS (Mx 70) (Mx 73) lm) := fun lm => LNS_9 ha.1 ha.2 c9
      have toI : ∀ (G : mm_ → Prop) (Qtq : qt_), (∀ V' : vv_, Cl_ wd0 (Tr_ wd0 pg0 (dq + 17)) V' (rv_ G) Qtq m_304 → Wk_ V' → qWH dq mask Mq (fun M12 => V' 70 [rr 6, ii mask, ii 1, none] [] M12) Qtq) → q70 dq mask 1 Mq G Qtq := fun G Qtq hq => toQ fun V' hV' hW' => j_228f hT hE (by decide) c7 (by
        rw [if_pos rfl]
        refine j_228f hT hE (by decide) c8 ?_
        rw [if_pos rfl]
        refine Tr_ri (hq V' hV' hW') (fun v M2 k => ?_)
        by_cases c : v = 0
        · rw [if_pos c] at k; exact k.elim
        · rw [if_neg c] at k ⊢; exact k)
      refine y_176 (dq := dq) h c9 (fun hb => by have := hS hb; rw [eS] at this; exact bind_n this) (fun F' M9 N9 a9 S9 ha9 W sy hq => ?_) (fun hb Mx' hx hq => ?_)
      · exact next F' M9 N9 a9 _ S9 (by omega) (P_when h W) (LF_when W) eS sy (fun G Qtq hg => toI G Qtq fun V' hV' hW' => hq _ _ (hg V' hV' hW'))
      · exact hQ hb Mx' hx (fun G Qtq hg => toI G Qtq fun V' hV' hW' => hq _ _ fun M' p => q70_s hV' hW' p.1 (hg _ p))
    rw [if_pos rfl]
    refine y_103 hE (fun c10 => ?_) (fun c10 => ?_)
    · -- NONE
      rw [if_neg (by decide)]
      have eS : ∀ lm, LNS (Mx 70) (Mx 73) lm (a, lc_ b Mx) = (noS (Mx 70) lm (a, lc_ b Mx)).bind (LNS (Mx 70) (Mx 73) lm) := fun lm => LNS_10 ha.1 ha.2 c10
      have toI : ∀ (G : mm_ → Prop) (Qtq : qt_), (∀ V' : vv_, Cl_ wd0 (Tr_ wd0 pg0 (dq + 17)) V' (rv_ G) Qtq m_304 → Wk_ V' → qFR (dq + 1) mask Mq (fun M12 => V' 70 [rr 6, ii mask, ii 1, none] [] M12) Qtq) → q70 dq mask 1 Mq G Qtq := fun G Qtq hq => toQ fun V' hV' hW' => j_228f hT hE (by decide) c7 (by
        rw [if_pos rfl]
        refine j_228f hT hE (by decide) c8 ?_
        rw [if_pos rfl]
        refine j_228f hT hE (by decide) c9 ?_
        rw [if_pos rfl]
        refine Tr_ri (hq V' hV' hW') (fun v M2 k => ?_)
        by_cases c : v = 0
        · rw [if_pos c] at k; exact k.elim
        · rw [if_neg c] at k ⊢; exact k)
      refine y_177 (dq := dq + 1) h c10 (fun hb => by have := hS hb; rw [eS] at this; exact bind_n this) (fun F' M' N' a' v kk S9 ha9 P Sm hv hkk E3 sy hq => ?_) (fun hb Mx' hx hq => ?_)
      · have L9 := LF_none (kk := kk) (c := Mx 5 3) (p := M' 71 a') P
        have l9 := LKP_X (b := b) (M1 := X9_ b (Xn_ M' b kk a') (Mx 5 4) (Mx 5 3)) (Mx := M') (by rw [X9_r (by decide), Xn_r (by decide)]) (by rw [X9_r (by decide), Xn_r (by decide)]) (by rw [X9_r (by decide), Xn_1 (by decide) (by decide) (by decide)]) (by rw [X9_r (by decide), Xn_1 (by decide) (by decide) (by decide)])
        refine next F' _ _ a' _ S9 (by omega) (P_none h P Sm hv hkk E3) L9 eS (fun lm hlm => ?_) (fun G Qtq hg => toI G Qtq fun V' hV' hW' => hq _ _ (hg V' hV' hW'))
        have l0 : LKP b Mx M' := by
          have l2 := LNF_t (kk := 0) (t := 0) (p := 0) P
          have e2 : Xn_ M' b 0 0 = M' := by unfold Xn_; rw [if_pos (.inr rfl)]
          rw [e2] at l2
          have l1 : LNF b F F Mx Mq (X2_ b (nX_ (nX_ Mx)) 3) (stQ_ (nx_ (nx_ Mq)) 3 mask) := LNF_tr (LNF_F (XF_tr nX_XF nX_XF) (QA_tr (QF_QA nx_QF) (QF_QA nx_QF)) (hl_QF (QF_tr nx_QF nx_QF)) (fun _ => by rw [nX_ne (by decide), nX_ne (by decide)])) (LNF_x X2_XSb stQ_QSb ⟨X2_r (by decide) (by decide), X2_r (by decide) (by decide), stQ_r (by decide) (by decide), stQ_r (by decide) (by decide), stQ_r (by decide) (by decide)⟩ ⟨stQ_r (by decide) (by decide), stQ_r (by decide) (by decide), stQ_r (by decide) (by decide)⟩ (X2_r (by decide) (by decide)) (X2_r (by decide) (by decide)) (by rw [X2_r (by decide) (by decide)]) (by rw [X2_r (by decide) (by decide)]) (fun hb => by unfold X2_; rw [if_pos hb]; exact ⟨rfl, rfl⟩))
          exact (LNF_tr l1 l2).2.2.1
        rw [l9.2]
        exact sy lm (LOK_s l0 l9.1 hlm).1
      · exact hQ hb Mx' hx (fun G Qtq hg => toI G Qtq fun V' hV' hW' => hq _ _ fun M' p => q70_s hV' hW' p.1 (hg _ p))
    rw [if_pos rfl]
    refine b_167_172 (Tr_mono _) hV hW _ _ ?_
    rw [if_pos rfl]
    have h7 : Mx 70 a < 7 ∨ 10 < Mx 70 a := by (clear hV hW hn h hS hK hQ hE hT ha go next toQ; lia)
    refine rv_i (hK F Mx Mq a h (Int.le_refl _) PRS_rf LNF_rf h7 (fun lm _ => LNS_0 ha.1 ha.2 h7) (fun G Qtq hg => toQ fun V' hV' hW' => j_228f hT hE (by decide) c7 ?_))
    rw [if_pos rfl]
    refine j_228f hT hE (by decide) c8 ?_
    rw [if_pos rfl]
    refine j_228f hT hE (by decide) c9 ?_
    rw [if_pos rfl]
    refine j_228f hT hE (by decide) c10 ?_
    rw [if_pos rfl]
    refine b_304_70 (Tr_mono _) hV' hW' _ _ _ ?_
    rw [if_pos rfl]
    exact rv_i hg
end LT
end T218_ln
section T219_sn
/-! names of states -/
def STA [Inhabited gh_] (b F : Int) (Mx Mq : mm_) (a ee : Int) : Prop := TS b F Mx Mq a ∧ ((0 ≤ Mx 5 4 ∧ 2 * Mx 5 4 ≤ a + ee) ∧ (0 ≤ Mq 6 62 ∧ 2 * Mq 6 62 ≤ a + ee) ∧ (0 ≤ Mq 6 63 ∧ 2 * Mq 6 63 ≤ a + ee)) ∧ (b = 1 → (∃ xs, SRW Mx Mq xs) ∧ (0 < Mq 6 62 → Mq 199 (Mq 6 62 - 1) = Mq 6 63))
def MKS (M : mm_) (mask : Int) : Prop := (0 ≤ mask ∧ mask < 4096) ∧ M 1 34 = mask ∧ ∀ l, 0 ≤ l → bt_ mask l → l < M 123 (M 1 18)
def nsX (M : mm_) (t : Int) : mm_ := up_ (up_ M 59 (12 * M 1 18 + M 123 (M 1 18)) t) 123 (M 1 18) (M 123 (M 1 18) + 1)
def nsQ (N : mm_) (t : Int) : mm_ := up_ (up_ (up_ N 179 (12 * N 6 61 + N 174 (N 6 61)) (N 151 t)) 186 (12 * N 6 61 + N 174 (N 6 61)) (N 150 t)) 174 (N 6 61) (N 174 (N 6 61) + 1)
/-- the tables of states grow -/
def SNW (b : Int) (Mx Mq M N : mm_) : Prop := (∀ i, i < 12 * Mx 1 18 + Mx 123 (Mx 1 18) ∨ 12 * Mx 1 18 + 12 ≤ i → M 59 i = Mx 59 i ∧ N 179 i = Mq 179 i ∧ N 186 i = Mq 186 i) ∧ (∀ i, i ≠ Mx 1 18 → M 123 i = Mx 123 i ∧ N 174 i = Mq 174 i) ∧ Mx 123 (Mx 1 18) ≤ M 123 (Mx 1 18)
  ∧ (∀ k, Mx 123 (Mx 1 18) ≤ k → k < M 123 (Mx 1 18) → N 186 (12 * Mx 1 18 + k) = M 71 (M 59 (12 * Mx 1 18 + k))) ∧ (b = 1 → NST Mx Mq M N)
def SMT (N : mm_) : Int → Bool := fun t => decide (stt N (N 151 t) ≠ -1)
def SOK (b : Int) (sm : Int → Bool) (Mq N : mm_) : Prop := (b = 0 → ∀ t, stt N (N 151 t) ≠ -1 → sm t = true) ∧ (b = 1 → sm = SMT Mq)
section SN
variable {d dq : Nat} {b F : Int} {M N M1 N1 M2 N2 Mx Mq : mm_} {a a' ee ee' mask k t : Int} {K : Int → mm_ → Prop} {Kv : mm_ → Prop} {Qt : qt_} {sm : Int → Bool}
theorem TS_d [Inhabited gh_] (h : TS b F Mx Mq a) (hx : XSb Mx M1) (hq : QSb Mq N1) (h1 : ∀ i : Int, i ≠ 22 → i ≠ 34 → M1 1 i = Mx 1 i) (h5 : M1 5 3 = Mx 5 3) (h9 : stt9 M1 N1) (h62 : M1 62 = Mx 62) (h128 : M1 128 = Mx 128)
    (h6 : ∀ i : Int, i ≠ 62 → i ≠ 63 → N1 6 i = Mq 6 i) (h175 : N1 175 = Mq 175) (h180 : N1 180 = Mq 180) (h187 : N1 187 = Mq 187) : TS b F M1 N1 a := by
  obtain ⟨⟨t1, t2, t3, t4, t5, t6⟩, g, l, s, ⟨u1, u2⟩, w, r, ⟨k1, k2⟩, n1, n2⟩ := h
  have e71 : M1 71 = Mx 71 := XSb_r hx (by decide)
  have i6 : ∀ i : Int, i ≠ 62 → i ≠ 63 → N1 6 i = Mq 6 i := h6
  have hE : ER b F M1 N1 a 0 := ER_X2 (ER_Q t3 (i6 _ (by decide) (by decide)) (i6 _ (by decide) (by decide)) (i6 _ (by decide) (by decide)) (i6 _ (by decide) (by decide)) (i6 _ (by decide) (by decide))) (XSb_r hx (by decide)) (fun i x y => h1 i (by omega) (by omega)) h5 (h1 19 (by omega) (by omega))
  exact ⟨⟨Tks_b hx hq t1, VT_b hx hq t2, hE, by rw [i6 75 (by decide) (by decide)]; exact t4, by rw [i6 104 (by decide) (by decide)]; exact t5, by rw [h5]; exact t6⟩, by rw [e71]; exact GT_b hx hq g, LBT_b l hx hq h62 h128 h175 h180 h187, h9, ⟨by rw [h1 29 (by decide) (by decide)]; exact u1, by rw [i6 76 (by decide) (by decide)]; exact u2⟩, by rw [h1 7 (by decide) (by decide)]; exact w, by rw [i6 90 (by decide) (by decide)]; exact r, ⟨by rw [h1 21 (by decide) (by decide)]; exact k1, by rw [h1 23 (by decide) (by decide)]; exact k2⟩, by rw [h1 19 (by decide) (by decide)]; exact n1, by rw [h5]; exact n2⟩
theorem STA_go [Inhabited gh_] (h : STA b F Mx Mq a ee) (hE : ER b F (nX_ Mx) (nx_ Mq) (a + 1) 0) : STA b F (nX_ Mx) (nx_ Mq) (a + 1) (ee - 1) := by
  obtain ⟨h1, ⟨s1, s2, s3⟩, h4⟩ := h
  refine ⟨TS_go h1 hE, ⟨by rw [nX_ne (by decide)]; omega, by rw [nx_6 (by decide)]; omega, by rw [nx_6 (by decide)]; omega⟩, fun hb => ?_⟩
  obtain ⟨⟨xs, hs⟩, hl⟩ := h4 hb
  refine ⟨⟨xs, SRW_a hs (XF_XA nX_XF) (QF_QA nx_QF)⟩, fun h => ?_⟩
  rw [nx_6 (by decide), nx_6 (by decide), nx_ne (by decide)]; rw [nx_6 (by decide)] at h; exact hl h
theorem STA_le [Inhabited gh_] (h : STA b F Mx Mq a ee) (he : ee ≤ ee') : STA b F Mx Mq a ee' := by
  obtain ⟨h1, ⟨s1, s2, s3⟩, h4⟩ := h
  exact ⟨h1, ⟨by omega, by omega, by omega⟩, h4⟩
theorem STA_34 [Inhabited gh_] (h : STA b F Mx Mq a ee) {v : Int} : STA b F (up_ Mx 1 34 v) Mq a ee := by
  obtain ⟨h1, ⟨s1, s2, s3⟩, h4⟩ := h
  have e : ∀ r : Nat, r ≠ 1 → up_ Mx 1 34 v r = Mx r := fun r h => up_ne h
  refine ⟨TS_c h1 ⟨fun r hr => e r (fun h => hr (by rw [h]; decide)), fun i hi => up_off (nm_i hi (by decide)), fun i _ _ => by rw [e 5 (by decide)]⟩ QSb_rf (fun i _ h => up_off h) (by rw [e 5 (by decide)]) (e _ (by decide)) (e _ (by decide)) (e _ (by decide)) (e _ (by decide)) (fun _ _ _ => rfl) rfl rfl rfl rfl rfl, ⟨by rw [e 5 (by decide)]; exact s1, s2, s3⟩, fun hb => ?_⟩
  obtain ⟨⟨xs, hs⟩, hl⟩ := h4 hb
  exact ⟨⟨xs, SRW_c hs (by rw [e 5 (by decide)]) (e _ (by decide)) (e _ (by decide)) (e _ (by decide)) (e _ (by decide)) (e _ (by decide)) rfl rfl rfl rfl rfl rfl rfl rfl⟩, hl⟩
theorem STA_SS [Inhabited gh_] (h : STA b F Mx Mq a ee) (hm : MKS Mx mask) : SS b F Mx Mq a mask ee := by
  obtain ⟨h1, hb, h4⟩ := h
  refine ⟨h1, hb, hm.1, fun hb => ?_⟩
  obtain ⟨hs, hl⟩ := h4 hb
  refine ⟨hs, hl, ?_⟩
  unfold MB
  rw [hm.2.1]
  exact ⟨hm.1, hm.1, fun l l0 => ⟨fun e => ⟨e, hm.2.2 l l0 e⟩, fun e => e.1⟩⟩
theorem STA_SA [Inhabited gh_] (h : STA b F Mx Mq a ee) (hm : Mx 1 34 = w32 (sl_ 1 (Mx 123 (Mx 1 18)) - 1)) : SS b F Mx Mq a 4095 ee := by
  obtain ⟨h1, hb, h4⟩ := h
  have s9 := h1.2.2.2.1.1
  refine ⟨h1, hb, by decide, fun hb => ?_⟩
  obtain ⟨hs, hl⟩ := h4 hb
  refine ⟨hs, hl, ?_⟩
  have o1 := ones_bt (n := Mx 123 (Mx 1 18)) ⟨s9.1, s9.2.1⟩
  have o2 := ones_bt (n := 12) (by decide)
  rw [show w32 (sl_ 1 12 - 1) = 4095 by decide] at o2
  rw [hm]
  refine ⟨o1.1, o2.1, fun l l0 => ?_⟩
  rw [o1.2 l l0, o2.2 l l0]
  exact ⟨fun e => ⟨by omega, e⟩, fun e => e.2⟩
theorem nsX_r [Inhabited gh_] {r : Nat} (h1 : r ≠ 59) (h2 : r ≠ 123) : nsX M t r = M r := by unfold nsX; rw [up_ne h2, up_ne h1]
theorem nsQ_r [Inhabited gh_] {r : Nat} (h1 : r ≠ 179) (h2 : r ≠ 186) (h3 : r ≠ 174) : nsQ N t r = N r := by unfold nsQ; rw [up_ne h3, up_ne h2, up_ne h1]
theorem SNW_rf [Inhabited gh_] : SNW b M N M N := ⟨fun _ _ => ⟨rfl, rfl, rfl⟩, fun _ _ => ⟨rfl, rfl⟩, Int.le_refl _, fun k a b => by lia, fun _ => ⟨rfl, rfl, rfl, rfl, rfl⟩⟩
theorem SNW_tr [Inhabited gh_] (hT : 0 ≤ Mx 1 18) (h12 : M2 123 (Mx 1 18) ≤ 12) (e71 : M2 71 = M1 71) (h18 : M1 1 18 = Mx 1 18) (h1 : SNW b Mx Mq M1 N1) (h2 : SNW b M1 N1 M2 N2) : SNW b Mx Mq M2 N2 := by
  obtain ⟨a1, a2, a3, a4, a5⟩ := h1
  obtain ⟨b1, b2, b3, b4, b5⟩ := h2
  rw [h18] at b1 b2 b3 b4
  refine ⟨fun i hi => ?_, fun i hi => ⟨(b2 i hi).1.trans (a2 i hi).1, (b2 i hi).2.trans (a2 i hi).2⟩, by omega, fun k k0 k1 => ?_, fun hb => NST_tr (a5 hb) (b5 hb)⟩
  · have x := b1 i (by omega)
    have y := a1 i hi
    exact ⟨x.1.trans y.1, x.2.1.trans y.2.1, x.2.2.trans y.2.2⟩
  · by_cases c : k < M1 123 (Mx 1 18)
    · have x := b1 (12 * Mx 1 18 + k) (.inl (by omega))
      rw [x.2.2, x.1, e71]; exact a4 k k0 c
    · exact b4 k (by omega) k1
theorem SNW_N [Inhabited gh_] (h : NST Mx Mq M N) : SNW b Mx Mq M N := by
  obtain ⟨a, b', c, d, e⟩ := h
  exact ⟨fun i _ => by rw [a, d, e]; exact ⟨rfl, rfl, rfl⟩, fun i _ => by rw [b', c]; exact ⟨rfl, rfl⟩, by rw [b']; exact Int.le_refl _, fun k x y => by rw [b'] at y; omega, fun _ => ⟨a, b', c, d, e⟩⟩
end SN
end T219_sn
section T220_sn
/-! names of states: a new one -/
section SO
variable {d dq : Nat} {b F : Int} {M N M1 N1 M2 N2 Mx Mq : mm_} {a a' ee ee' mask k t v : Int} {K : Int → mm_ → Prop} {Kv : mm_ → Prop} {Qt : qt_} {sm : Int → Bool}
theorem stt_m [Inhabited gh_] (hV : N 6 61 = M 1 18) (h61 : N1 6 61 = N 6 61) (hn : N 174 (M 1 18) = M 123 (M 1 18)) (h0 : 0 ≤ M 123 (M 1 18)) (hn1 : N1 174 (M 1 18) = M1 123 (M 1 18)) (h : SNW b M N M1 N1) (hs : stt N v ≠ -1) : stt N1 v ≠ -1 := by
  obtain ⟨a1, a2, a3, a4, a5⟩ := h
  unfold stt at hs ⊢
  rw [h61, hV, hn1]
  rw [hV, hn] at hs
  rcases fi_r (fun i => N 179 (12 * M 1 18 + i)) v (M 123 (M 1 18)).toNat 0 with e | ⟨e1, e2, e3⟩
  · exact absurd e hs
  · intro e
    have := fi_no _ _ _ _ e (Int.le_refl _) (fi_ (fun i => N 179 (12 * M 1 18 + i)) v (M 123 (M 1 18)).toNat 0) e1 (by (clear hV h61 hn h0 hn1 hs a1 a2 a4 a5 e3 e; omega))
    apply this
    show N1 179 (12 * M 1 18 + fi_ (fun i => N 179 (12 * M 1 18 + i)) v (M 123 (M 1 18)).toNat 0) = v
    rw [(a1 _ (.inl (by (clear hV h61 hn h0 hn1 hs a1 a2 a3 a4 a5 e3 e; omega)))).2.1]; exact e3
theorem stt_a [Inhabited gh_] (h : QA N N1) : stt N1 v = stt N v := by unfold stt; rw [h.1 179 (by decide), h.1 174 (by decide), h.2 61 (by decide)]
theorem SOK_s [Inhabited gh_] (h151 : N2 151 = N1 151) (hm : ∀ v, b = 0 → stt N1 v ≠ -1 → stt N2 v ≠ -1) (hS : b = 1 → SMT N1 = SMT Mq) (h : SOK b sm Mq N2) : SOK b sm Mq N1 ∧ SOK b sm N1 N2 := ⟨⟨fun hb t ht => h.1 hb t (by rw [h151]; exact hm _ hb ht), h.2⟩, ⟨h.1, fun hb => by rw [hS hb]; exact h.2 hb⟩⟩
theorem ns_stt9 [Inhabited gh_] (h9 : stt9 M N) (hV : N 6 61 = M 1 18) (hT : 0 ≤ M 1 18) (h12 : M 123 (M 1 18) < 12) (ht : nm9_ M t) : stt9 (nsX M t) (nsQ N t) := by
  obtain ⟨⟨a1, a2, a3⟩, a4⟩ := h9
  have x1 : nsX M t 1 = M 1 := nsX_r (by decide) (by decide)
  have x123 : nsX M t 123 (M 1 18) = M 123 (M 1 18) + 1 := by unfold nsX; rw [up_at]
  have q174 : nsQ N t 174 (M 1 18) = N 174 (M 1 18) + 1 := by unfold nsQ; rw [hV, up_at]
  unfold stt9
  rw [x1, x123, q174]
  refine ⟨⟨by (clear hV hT ht a4 a2 x1; lia), by omega, by omega⟩, fun k k0 k1 => ?_⟩
  have e151 : nsQ N t 151 = N 151 := nsQ_r (by decide) (by decide) (by decide)
  have e70 : nsX M t 70 = M 70 := nsX_r (by decide) (by decide)
  rw [e151]
  have e179 : ∀ i, nsQ N t 179 i = if i = 12 * M 1 18 + M 123 (M 1 18) then N 151 t else N 179 i := fun i => by
    unfold nsQ
    rw [up_ne (by decide), up_ne (by decide), hV, a3]
    by_cases c : i = 12 * M 1 18 + M 123 (M 1 18)
    · rw [if_pos c, c, up_at]
    · rw [if_neg c, up_of2 c]
  have e59 : ∀ i, nsX M t 59 i = if i = 12 * M 1 18 + M 123 (M 1 18) then t else M 59 i := fun i => by
    unfold nsX
    rw [up_ne (by decide)]
    by_cases c : i = 12 * M 1 18 + M 123 (M 1 18)
    · rw [if_pos c, c, up_at]
    · rw [if_neg c, up_of2 c]
  rw [e179, e59]
  by_cases c : k = M 123 (M 1 18)
  · rw [if_pos (by (clear hV hT h12 ht a4 a1 a2 x1 k0 k1 e151 e70 e179 e59; lia)), if_pos (by omega)]
    exact ⟨⟨gd_c e70 ht.1, by rw [e70]; exact ht.2⟩, rfl⟩
  · rw [if_neg (by (clear hV hT h12 ht a4 a1 a2 x1 k0 k1 e151 e70 e179 e59; lia)), if_neg (by omega)]
    have := a4 k k0 (by (clear hV hT h12 ht a4 a1 a2 x1 k0 e151 e70 e179 e59; lia))
    exact ⟨⟨gd_c e70 this.1.1, by rw [e70]; exact this.1.2⟩, this.2⟩
theorem ns_X [Inhabited gh_] : XSb M (nsX M t) := ⟨fun r hr => nsX_r (fun e => hr (by rw [e]; decide)) (fun e => hr (by rw [e]; decide)), fun i _ => by rw [nsX_r (by decide) (by decide)], fun i _ _ => by rw [nsX_r (by decide) (by decide)]⟩
theorem ns_Q [Inhabited gh_] : QSb N (nsQ N t) := ⟨fun r hr => nsQ_r (fun e => hr (by rw [e]; decide)) (fun e => hr (by rw [e]; decide)) (fun e => hr (by rw [e]; decide)), fun i _ => by rw [nsQ_r (by decide) (by decide) (by decide)]⟩
theorem STA_ns [Inhabited gh_] (h : STA b F M N a ee) (hb : b = 0) (h12 : M 123 (M 1 18) < 12) (ht : nm9_ M t) : STA b F (nsX M t) (nsQ N t) a ee := by
  obtain ⟨h1, ⟨s1, s2, s3⟩, h4⟩ := h
  have hV := h1.1.2.1
  have x : ∀ r : Nat, r ≠ 59 → r ≠ 123 → nsX M t r = M r := fun r a b => nsX_r a b
  have q : ∀ r : Nat, r ≠ 179 → r ≠ 186 → r ≠ 174 → nsQ N t r = N r := fun r a b c => nsQ_r a b c
  exact ⟨TS_d h1 ns_X ns_Q (fun i _ _ => by rw [x 1 (by decide) (by decide)]) (by rw [x 5 (by decide) (by decide)]) (ns_stt9 h1.2.2.2.1 hV.2.1 hV.2.2.1 h12 ht) (x _ (by decide) (by decide)) (x _ (by decide) (by decide)) (fun i _ _ => by rw [q 6 (by decide) (by decide) (by decide)]) (q _ (by decide) (by decide) (by decide)) (q _ (by decide) (by decide) (by decide)) (q _ (by decide) (by decide) (by decide)), ⟨by rw [x 5 (by decide) (by decide)]; exact s1, by rw [q 6 (by decide) (by decide) (by decide)]; exact s2, by rw [q 6 (by decide) (by decide) (by decide)]; exact s3⟩, fun hb1 => by omega⟩
theorem SNW_ns [Inhabited gh_] (hb : b = 0) (hT : Tks M N) (h9 : stt9 M N) (hV : N 6 61 = M 1 18) (hT0 : 0 ≤ M 1 18) (h12 : M 123 (M 1 18) < 12) (ht : nm9_ M t) : SNW b M N (nsX M t) (nsQ N t) := by
  have a3 := h9.1
  have x123 : nsX M t 123 (M 1 18) = M 123 (M 1 18) + 1 := by unfold nsX; rw [up_at]
  refine ⟨fun i hi => ⟨?_, ?_, ?_⟩, fun i hi => ⟨?_, ?_⟩, by omega, fun k k0 k1 => ?_, fun hb1 => by omega⟩
  · unfold nsX; rw [up_ne (by decide), up_of2 (by (clear hb hT h9 hV hT0 ht; omega))]
  · unfold nsQ; rw [up_ne (by decide), up_ne (by decide), hV, a3.2.2, up_of2 (by omega)]
  · unfold nsQ; rw [up_ne (by decide), hV, a3.2.2, up_of2 (by omega), up_ne (by decide)]
  · unfold nsX; rw [up_of2 hi, up_ne (by decide)]
  · unfold nsQ; rw [hV, up_of2 hi, up_ne (by decide), up_ne (by decide)]
  · rw [x123] at k1
    rw [show k = M 123 (M 1 18) by (clear hb hT h9 hV hT0 h12 ht; lia), nsX_r (r := 71) (by decide) (by decide)]
    have e1 : nsX M t 59 (12 * M 1 18 + M 123 (M 1 18)) = t := by unfold nsX; rw [up_ne (by decide), up_at]
    have e2 : nsQ N t 186 (12 * M 1 18 + M 123 (M 1 18)) = N 150 t := by unfold nsQ; rw [up_ne (by decide), hV, a3.2.2, up_at]
    rw [e1, e2]; exact (hT t ht.1).2.1.symm
/-- Q's stateHere: a state that there is -/
theorem q_305k [Inhabited gh_] (hV : VT M N) (h9 : stt9 M N) (ht : 0 ≤ t ∧ t < 1202) (hk : stt N (N 151 t) ≠ -1) (h : K (sl_ 1 (stt N (N 151 t))) N) : Tr_ wd0 pg0 (d + 2) 305 [.inr (.inr 6), .inl t] N (ri_ K) Qt := by
  have r := stt_r hV h9 (v := N 151 t)
  refine t_305 fun V hV' hW => b_305_0 (Tr_mono _) hV' hW _ _ ⟨ht, q_267R hV h9 ?_⟩
  rw [if_neg (by omega)]
  exact ri_i h
/-- a new one -/
theorem q_305n [Inhabited gh_] (hV : VT M N) (h9 : stt9 M N) (ht : 0 ≤ t ∧ t < 1202) (h16 : N 6 16 = 0) (hk : stt N (N 151 t) = -1) (h12 : N 174 (N 6 61) < 12) (h : K (sl_ 1 (N 174 (N 6 61))) (nsQ N t)) : Tr_ wd0 pg0 (d + 2) 305 [.inr (.inr 6), .inl t] N (ri_ K) Qt := by
  have v := hV.2
  have a3 := h9.1
  have e174 : 0 ≤ N 174 (N 6 61) := by rw [v.1]; (clear hV h9 ht h16 hk h12 h v; lia)
  refine t_305 fun V hV' hW => b_305_0 (Tr_mono _) hV' hW _ _ ⟨ht, q_267R hV h9 ?_⟩
  rw [if_pos (by (clear hV h9 ht h16 h12 h v a3 e174 hV' hW; lia))]
  intro _
  rw [if_pos h16]
  refine ⟨by (clear hV h9 ht h16 hk h12 h a3 e174 hV' hW; omega), ?_⟩
  rw [if_neg (by omega), w32_id (x := 12 * N 6 61) (by (clear hV h9 ht h16 hk h12 h a3 e174 hV' hW; omega)) (by omega), w32_id (x := 12 * N 6 61 + N 174 (N 6 61)) (by omega) (by omega), w32_id (x := N 174 (N 6 61) + 1) (by (clear hV h9 ht h16 hk h v a3 hV' hW; omega)) (by (clear hV h9 ht h16 hk h v a3 hV' hW; omega))]
  exact ⟨by omega, ht, by omega, ht, by omega, by omega, by omega, ri_i h⟩
/-- no room -/
theorem q_305r [Inhabited gh_] (hV : VT M N) (h9 : stt9 M N) (ht : 0 ≤ t ∧ t < 1202) (h16 : N 6 16 = 0) (h13 : N 6 13 = 0) (hk : stt N (N 151 t) = -1) (h12 : N 174 (N 6 61) = 12) (h : K 0 (bf_ N 2 (N 150 t))) : Tr_ wd0 pg0 (d + 2) 305 [.inr (.inr 6), .inl t] N (ri_ K) Qt := by
  have v := hV.2
  refine t_305 fun V hV' hW => b_305_0 (Tr_mono _) hV' hW _ _ ⟨ht, q_267R hV h9 ?_⟩
  rw [if_pos (by omega)]
  intro _
  rw [if_pos h16]
  refine ⟨by omega, ?_⟩
  rw [if_pos h12]
  exact ⟨ht, q_231o h13 (ri_i h)⟩
end SO
end T220_sn
section T221_sn
/-! names of states: the loop (X 167 V 47 | Q 304 V 20) -/
def nmT (κ : Int → Int) (sm : Int → Bool) (a : Int) : Option (Int ⊕ Int) := if sm a then (tS κ 100 a).bind fun a1 => if κ a1 = 244 then (gS a1).bind fun a2 => some (.inl a2) else some (.inr a1) else none
def NM (κ : Int → Int) (sm : Int → Bool) (a : Int) : Option Int := LPz (nmT κ sm) a
section NMs
variable {κ : Int → Int} {sm : Int → Bool} {a : Int}
theorem nmT_y [Inhabited gh_] {L : Int → Option Int} {X : Option Int} (hX : tS κ 100 a = X) : (nmT κ sm a).bind (lk8_ L) = if sm a then X.bind fun a1 => if κ a1 = 244 then (gS a1).bind L else some a1 else none := by
  unfold nmT
  rw [hX]
  by_cases cs : sm a = true
  · rw [if_pos cs, if_pos cs]
    cases X with
    | none => rfl
    | some a1 =>
      rw [Option.bind_some, Option.bind_some]
      by_cases c : κ a1 = 244
      · rw [if_pos c, if_pos c]
        cases gS a1 with
        | none => rfl
        | some a2 => rfl
      · rw [if_neg c, if_neg c]; rfl
  · rw [if_neg cs, if_neg cs]; rfl
theorem nmT_l [Inhabited gh_] (s s' : Int) (h0 : 0 ≤ s) (h1 : s ≤ 1200) (h : nmT κ sm s = some (.inl s')) : s + 1 ≤ s' ∧ s' ≤ 1200 := by
  unfold nmT at h
  split at h
  · obtain ⟨x, e1, h⟩ := bind_s h
    have t := tS_s e1
    split at h
    · obtain ⟨y, e2, h⟩ := bind_s h
      have g := gS_s e2
      injection h with h; injection h with h; omega
    · injection h with h; cases h
  · cases h
theorem NM_e [Inhabited gh_] (h0 : 0 ≤ a) (h1 : a ≤ 1200) : NM κ sm a = if sm a then (tS κ 100 a).bind fun a1 => if κ a1 = 244 then (gS a1).bind (NM κ sm) else some a1 else none := (LP_u (step := nmT κ sm) (fun s => s) (fun s s' => nmT_l s s') (s := a) h0 h1).trans (nmT_y rfl)
end NMs
def q20 (dq : Nat) (mask x2 : Int) (N : mm_) (G : mm_ → Prop) (Qt : qt_) : Prop := ∀ V : vv_, Cl_ wd0 (Tr_ wd0 pg0 (dq + 17)) V (rv_ G) Qt m_304 → Wk_ V → V 20 [rr 6, ii mask, ii x2, none] [] N
/-- what the head of a state changes -/
def HB (b : Int) (Mx Mq M N : mm_) : Prop := b = 1 → (∀ r : Nat, r ≠ 1 → M r = Mx r) ∧ (∀ i : Int, i ≠ 3 → i ≠ 34 → M 1 i = Mx 1 i) ∧ (∀ r : Nat, r ≠ 6 → N r = Mq r) ∧ (∀ i : Int, i ≠ 12 → N 6 i = Mq 6 i)
def NMF (b : Int) (Mx Mq M N : mm_) : Prop := XSb Mx M ∧ QSb Mq N ∧ LKP b Mx M ∧ SNW b Mx Mq M N ∧ HB b Mx Mq M N ∧ M 128 = Mx 128 ∧ M 1 19 = Mx 1 19 ∧ LBW b Mx Mq M N
section SP
variable {d dq : Nat} {b F : Int} {M N M1 N1 M2 N2 Mx Mq : mm_} {a a' ee ee' mask k t v : Int} {K : Int → mm_ → Prop} {Kv G : mm_ → Prop} {Qt Qtq : qt_} {V : vv_} {sm : Int → Bool}
theorem HB_tr [Inhabited gh_] (h1 : HB b M N M1 N1) (h2 : HB b M1 N1 M2 N2) : HB b M N M2 N2 := fun hb => by
  obtain ⟨a1, a2, a3, a4⟩ := h1 hb
  obtain ⟨b1, b2, b3, b4⟩ := h2 hb
  exact ⟨fun r h => (b1 r h).trans (a1 r h), fun i h h' => (b2 i h h').trans (a2 i h h'), fun r h => (b3 r h).trans (a3 r h), fun i h => (b4 i h).trans (a4 i h)⟩
theorem NMF_tr [Inhabited gh_] (hT : 0 ≤ M 1 18) (h12 : M2 123 (M 1 18) ≤ 12) (h1 : NMF b M N M1 N1) (h2 : NMF b M1 N1 M2 N2) : NMF b M N M2 N2 := ⟨XSb_tr h1.1 h2.1, QSb_tr h1.2.1 h2.2.1, LKP_tr h1.2.2.1 h2.2.2.1, SNW_tr hT h12 (XSb_r h2.1 (by decide)) (h1.1.2.1 18 (by decide)) h1.2.2.2.1 h2.2.2.2.1, HB_tr h1.2.2.2.2.1 h2.2.2.2.2.1, h2.2.2.2.2.2.1.trans h1.2.2.2.2.2.1, h2.2.2.2.2.2.2.1.trans h1.2.2.2.2.2.2.1, LBW_tr h1.2.2.1 h1.2.2.2.2.2.2.2 h2.2.2.2.2.2.2.2⟩
theorem NMF_go [Inhabited gh_] : NMF b M N (nX_ M) (nx_ N) := ⟨XA_XSb (XF_XA nX_XF), QA_QSb (QF_QA nx_QF), (LKP_F nX_XF).1, SNW_N (NST_a (XF_XA nX_XF) (QF_QA nx_QF)), fun _ => ⟨fun r h => nX_ne h, fun i h _ => nX_1 h, fun r h => nx_ne h, fun i h => nx_6 h⟩, nX_ne (by decide), nX_1 (by decide), LBW_e (nX_ne (by decide)) (nX_ne (by decide)) (nx_ne (by decide)) (nx_ne (by decide)) (nx_ne (by decide)) (fun _ => by rw [nX_ne (by decide)]; exact ⟨rfl, rfl⟩)⟩
theorem NMF_34 [Inhabited gh_] {v : Int} : NMF b M N (up_ M 1 34 v) N := ⟨⟨fun r hr => up_ne (fun h => hr (by rw [h]; decide)), fun i hi => up_off (nm_i hi (by decide)), fun i _ _ => by rw [up_ne (by decide)]⟩, QSb_rf, (LKP_X (up_ne (by decide)) (up_ne (by decide)) (up_off (by decide)) (up_off (by decide))).1, SNW_N ⟨up_ne (by decide), up_ne (by decide), rfl, rfl, rfl⟩, fun _ => ⟨fun r h => up_ne h, fun i _ h => up_off h, fun _ _ => rfl, fun _ _ => rfl⟩, up_ne (by decide), up_off (by decide), LBW_e (up_ne (by decide)) (up_ne (by decide)) rfl rfl rfl (fun _ => by rw [up_ne (by decide)]; exact ⟨rfl, rfl⟩)⟩
theorem q20_s [Inhabited gh_] {V' : vv_} {x2 : Int} (hV : Cl_ wd0 (Tr_ wd0 pg0 (dq + 17)) V' (rv_ G) Qtq m_304) (hW : Wk_ V') (hs : sp_ N) (h : G N) : V' 20 [rr 6, ii mask, ii x2, none] [] N := by
  refine b_304_20 (Tr_mono _) hV hW _ _ _ ?_
  by_cases c : x2 = 0
  · rw [if_pos c]; exact q_244s hs (q70_s hV hW hs h)
  · rw [if_neg c]; exact q_227s hs (by rw [if_neg (by decide)]; exact q_244s hs (q70_s hV hW hs h))
theorem MKS_or [Inhabited gh_] (h : MKS M mask) (hk : 0 ≤ k ∧ k < M1 123 (M 1 18)) (h12 : M1 123 (M 1 18) ≤ 12) (hm : M 123 (M 1 18) ≤ M1 123 (M 1 18)) (h18 : M1 1 18 = M 1 18) : MKS (up_ M1 1 34 (or_ mask (sl_ 1 k))) (or_ mask (sl_ 1 k)) := by
  have o := or_bt (x := mask) (k := k) (m := 12) (by decide) h.1.1 (by have := h.1.2; omega) hk.1 (by (clear h hm h18; omega))
  refine ⟨⟨o.1.1, by have := o.1.2; omega⟩, up_at, fun l l0 e => ?_⟩
  rw [up_ne (by decide), up_off (by decide), h18]
  rw [o.2 l l0] at e
  rcases e with e | e
  · have := h.2.2 l l0 e; (clear h hk h12 h18 o l0 e; omega)
  · omega
theorem l_47 [Inhabited gh_] (hV : Cl_ wd0 (Tr_ wd0 pg0 129) V (rv_ Kv) Qt m_167) (hW : Wk_ V) :
    ∀ (n : Nat) (a ee mask : Int) (M N : mm_), 1201 - a ≤ (n : Int) → STA b F M N a ee → MKS M mask → (b = 1 → ((NM (M 70) (SMT N) a).bind (tS (M 70) 259)) ≠ none) →
    (∀ M' N' a' mask', STA b F M' N' a' (ee - 1) → MKS M' mask' → a + 1 ≤ a' → NMF b M N M' N' → (∀ sm, SOK b sm N N' → NM (M 70) sm a = some a') → (∀ (G : mm_ → Prop) (Qtq : qt_), q20 dq mask' 0 N' G Qtq → q20 dq mask 1 N G Qtq) → V 47 [rr 1, ii 0, none, none] [] M') →
    (b = 0 → ∀ Mx', XSb M Mx' → (∀ (G : mm_ → Prop) (Qtq : qt_), (∀ M', SQb Mx' N M' → G M') → q20 dq mask 1 N G Qtq) → Qt 8 Mx') →
    V 47 [rr 1, ii 1, none, none] [] M
  | 0, a, ee, mask, M, N, hn, h, _, _, _, _ => by have := ER_a (TS_E h.1); omega
  | n + 1, a, ee, mask, M, N, hn, h, hm, hS, hK, hQ => by
    have hE := TS_E h.1
    have hT := h.1.1.1
    have ha := ER_a hE
    have h01 := bl01 hE
    have hV0 := h.1.1.2.1
    have stopped : ∀ {Mx' M2 : mm_}, SQ Mx' N M2 → SQb Mx' N M2 := fun hs => ⟨hs.1, hs.2.1, hs.2.2.1, hs.2.2.2.1, QA_QSb hs.2.2.2.2⟩
    have eNM : ∀ sm, NM (M 70) sm a = if sm a then (tS (M 70) 100 a).bind fun a1 => if M 70 a1 = 244 then (gS a1).bind (NM (M 70) sm) else some a1 else none := fun sm => NM_e ha.1 ha.2
    refine b_167_47 (Tr_mono _) hV hW _ _ ?_
    rw [if_neg (by decide)]
    have toQ : ∀ {G : mm_ → Prop} {Qtq : qt_}, (∀ V' : vv_, Cl_ wd0 (Tr_ wd0 pg0 (dq + 17)) V' (rv_ G) Qtq m_304 → Wk_ V' → Tr_ wd0 pg0 (dq + 17) 233 [.inr (.inr 6)] N (ri_ fun v2 M4 =>
     Tr_ wd0 pg0 (dq + 17) 227 [.inr (.inr 6)] M4 (ri_ fun v3 M5 =>
      (if v3 = 0 then
       Tr_ wd0 pg0 (dq + 17) 305 [.inr (.inr 6), .inl v2] M5 (ri_ fun v4 M6 =>
        Tr_ wd0 pg0 (dq + 17) 242 [.inr (.inr 6), .inl 44] M6 (ri_ fun v5 M7 =>
         V' 20 [rr 6, ii (or_ mask v4), ii v5, none] [] M7) Qtq) Qtq
      else
       rv_ G [] M5)) Qtq) Qtq) → q20 dq mask 1 N G Qtq := fun hq V' hV' hW' => by
      refine b_304_20 (Tr_mono _) hV' hW' _ _ _ ?_
      rw [if_neg (by decide)]
      refine q_227g (ER_goq hE) ?_
      rw [if_pos rfl]
      exact hq V' hV' hW'
    have sm1 : b = 1 → SMT N a = true := fun hb => by
      have h9 := hS hb
      rw [eNM] at h9
      by_cases c : SMT N a = true
      · exact c
      · rw [if_neg c] at h9; exact absurd rfl h9
    refine y_107 (d := 125) hE (fun hb => by have := hS hb; rw [eNM, if_pos (sm1 hb)] at this; exact bind_n (bind_n this)) (fun hk1 h12 hE1 => ?_) (fun hb hk1 h12 => ?_) (fun hb hk1 => ?_)
    rotate_left
    · have hsp := SQ_bf hE hb (k := 2) (by decide) QA_rf
      exact hQ hb _ (XA_XSb (XF_XA fl_XF)) (fun G Qtq hg => toQ fun V' hV' hW' => j_233r hT hE hb hk1 h12 (q_227s hsp.1 (by rw [if_neg (by decide)]; exact rv_i (hg _ (stopped hsp)))))
    · have hsp := SQ_bf hE hb (k := 1) (by decide) QA_rf
      exact hQ hb _ (XA_XSb (XF_XA fl_XF)) (fun G Qtq hg => toQ fun V' hV' hW' => j_233w hT hE hb hk1 (q_227s hsp.1 (by rw [if_neg (by decide)]; exact rv_i (hg _ (stopped hsp)))))
    have S1 := STA_go h hE1
    have hT1 := S1.1.1.1
    have hV1 := S1.1.1.2.1
    have h91 := S1.1.2.2.2.1
    have n91 : nm9_ (nX_ M) a := ⟨gd_c (nX_ne (by decide)) hE.1, by rw [nX_ne (by decide)]; exact hk1⟩
    have x70 : nX_ M 70 = M 70 := nX_ne (by decide)
    have x151 : nx_ N 151 = N 151 := nx_ne (by decide)
    have est : ∀ v, stt (nx_ N) v = stt N v := fun v => stt_a (QF_QA nx_QF)
    have m1 : MKS (nX_ M) mask := by
      unfold MKS; rw [nX_1 (by decide), nX_1 (by decide), nX_ne (by decide)]; exact hm
    have q5 : ∀ {G : mm_ → Prop} {Qtq : qt_}, (∀ V' : vv_, Cl_ wd0 (Tr_ wd0 pg0 (dq + 17)) V' (rv_ G) Qtq m_304 → Wk_ V' → Tr_ wd0 pg0 (dq + 17) 305 [.inr (.inr 6), .inl a] (nx_ N) (ri_ fun v4 M6 => Tr_ wd0 pg0 (dq + 17) 242 [.inr (.inr 6), .inl 44] M6 (ri_ fun v5 M7 => V' 20 [rr 6, ii (or_ mask v4), ii v5, none] [] M7) Qtq) Qtq) → q20 dq mask 1 N G Qtq := fun hq => toQ fun V' hV' hW' => j_233t hT hE hk1 h12 (q_227g (ER_goq hE1) (by rw [if_pos rfl]; exact hq V' hV' hW'))
    -- behind a state's name
    have tail : ∀ (k : Int) (M1 N1 : mm_), STA b F M1 N1 (a + 1) (ee - 1) → NMF b M N M1 N1 → M1 1 34 = mask → (0 ≤ k ∧ k < M1 123 (M 1 18)) → stt N1 (N1 151 a) ≠ -1 → (∀ (G : mm_ → Prop) (Qtq : qt_), (∀ V' : vv_, Cl_ wd0 (Tr_ wd0 pg0 (dq + 17)) V' (rv_ G) Qtq m_304 → Wk_ V' → Tr_ wd0 pg0 (dq + 17) 242 [.inr (.inr 6), .inl 44] N1 (ri_ fun v5 M7 => V' 20 [rr 6, ii (or_ mask (sl_ 1 k)), ii v5, none] [] M7) Qtq) → q20 dq mask 1 N G Qtq) →
        V 134 [rr 1, ii 1, ii a, ii k] [] M1 := fun k M1 N1 S2 f2 e34 hk hst q6 => by
      have e18 : M1 1 18 = M 1 18 := f2.1.2.1 18 (by decide)
      have s9 := S2.1.2.2.2.1.1
      rw [e18] at s9
      have m2 := MKS_or (M1 := M1) hm hk s9.2.1 f2.2.2.2.1.2.2.1 e18
      have S3 : STA b F (up_ M1 1 34 (or_ mask (sl_ 1 k))) N1 (a + 1) (ee - 1) := STA_34 S2
      have f3 : NMF b M N (up_ M1 1 34 (or_ mask (sl_ 1 k))) N1 := NMF_tr hV0.2.2.1 (by rw [up_ne (by decide)]; exact s9.2.1) f2 NMF_34
      refine b_167_134 (Tr_mono _) hV hW _ _ _ _ ?_
      rw [e34]
      have u70 : up_ M1 1 34 (or_ mask (sl_ 1 k)) 70 = M 70 := XSb_r f3.1 (by decide)
      have n151 : N1 151 = N 151 := QSb_r f3.2.1 (by decide)
      have n61 : N1 6 61 = N 6 61 := f3.2.1.2 61 (by decide)
      generalize up_ M1 1 34 (or_ mask (sl_ 1 k)) = M3 at *
      have hE3 := TS_E S3.1
      have hT3 := S3.1.1.1
      have e18' : M3 1 18 = M 1 18 := f3.1.2.1 18 (by decide)
      have smN : b = 1 → SMT N1 = SMT N := fun hb => by
        obtain ⟨_, _, g3, g4⟩ := f3.2.2.2.2.1 hb
        unfold SMT stt
        rw [n151, g4 61 (by decide), g3 179 (by decide), g3 174 (by decide)]
      have ok1 : ∀ sm, SOK b sm N N1 → sm a = true := fun sm hs => by
        rcases h01 with hb | hb
        · exact hs.1 hb a hst
        · rw [hs.2 hb]; exact sm1 hb
      refine y_117 hE3 (by decide) (fun c => ?_) (fun c => ?_)
      · have c' : M 70 (a + 1) = 244 := by rw [← u70]; exact c
        have eN2 : ∀ sm, sm a = true → NM (M 70) sm a = (gS (a + 1)).bind (NM (M 70) sm) := fun sm hs => by rw [eNM, if_pos hs, tS_e hk1 h12, Option.bind_some, if_pos c']
        rw [if_neg (by decide)]
        refine y_105 hE3 (by rw [c]; decide) (fun hb => by have := hS hb; rw [eN2 _ (sm1 hb)] at this; exact bind_n (bind_n this)) (fun h13 hE4 => ?_) (fun hb h13 => ?_)
        · have S4 := STA_go S3 hE4
          have m4 : MKS (nX_ M3) (or_ mask (sl_ 1 k)) := by unfold MKS; rw [nX_1 (by decide), nX_1 (by decide), nX_ne (by decide)]; exact m2
          have s94 := S4.1.2.2.2.1.1
          have f4 : NMF b M N (nX_ M3) (nx_ N1) := NMF_tr hV0.2.2.1 (by rw [nX_1 (by decide), e18'] at s94; exact s94.2.1) f3 NMF_go
          have y70 : nX_ M3 70 = M 70 := by rw [nX_ne (by decide)]; exact u70
          have q7 : ∀ (G : mm_ → Prop) (Qtq : qt_), q20 dq (or_ mask (sl_ 1 k)) 1 (nx_ N1) G Qtq → q20 dq mask 1 N G Qtq := fun G Qtq hq => q6 G Qtq fun V' hV' hW' => j_242t hT3 hE3 (by decide) c h13 (hq V' hV' hW')
          have sm4 : SMT (nx_ N1) = SMT N1 := by
            unfold SMT; rw [nx_ne (r := 151) (by decide)]; funext t; rw [stt_a (QF_QA nx_QF)]
          refine l_47 hV hW n (a + 1 + 1) (ee - 1 - 1) _ (nX_ M3) (nx_ N1) (by (clear hV hW h hm hS hK hQ hE hT ha h01 hV0 stopped eNM toQ sm1 hk1 h12 hE1 S1 hT1 hV1 h91 n91 x70 x151 est m1 q5 S2 f2 e34 hk hst q6 e18 s9 n151 n61 m2 S3 f3 u70 hE3 hT3 e18' smN ok1 c c' eN2 h13 hE4 S4 m4 s94 f4 y70 q7 sm4; omega)) S4 m4 (fun hb => ?_) (fun M' N' a' mask' S' m' ha' f' sy hq => ?_) (fun hb Mx' hx hq => ?_)
          · have := hS hb
            rw [eN2 _ (sm1 hb), gS_e h13, Option.bind_some] at this
            rw [y70, sm4, smN hb]; exact this
          · have s9' := S'.1.2.2.2.1.1
            have e8 : M' 1 18 = M 1 18 := by rw [f'.1.2.1 18 (by decide), f4.1.2.1 18 (by decide)]
            rw [e8] at s9'
            have e84 : nX_ M3 1 18 = M 1 18 := f4.1.2.1 18 (by decide)
            refine hK M' N' a' mask' (STA_le S' (by (clear hV hW hn h hm hS hK hQ hE hT ha h01 hV0 stopped eNM toQ sm1 hk1 h12 hE1 S1 hT1 hV1 h91 n91 x70 x151 est m1 q5 S2 f2 e34 hk hst q6 e18 s9 n151 n61 m2 S3 f3 u70 hE3 hT3 e18' smN ok1 c c' eN2 h13 hE4 S4 m4 s94 f4 y70 q7 sm4 S' m' ha' f' sy hq s9' e8 e84; lia))) m' (by (clear hV hW hn h hm hS hK hQ hE hT ha h01 hV0 stopped eNM toQ sm1 hk1 h12 hE1 S1 hT1 hV1 h91 n91 x70 x151 est m1 q5 S2 f2 e34 hk hst q6 e18 s9 n151 n61 m2 S3 f3 u70 hE3 hT3 e18' smN ok1 c c' eN2 h13 hE4 S4 m4 s94 f4 y70 q7 sm4 S' m' f' sy hq s9' e8 e84; omega)) (NMF_tr hV0.2.2.1 s9'.2.1 f4 f') (fun sm hs => ?_) (fun G Qtq hg => q7 G Qtq (hq G Qtq hg))
            have mono : ∀ v, b = 0 → stt (nx_ N1) v ≠ -1 → stt N' v ≠ -1 := fun v hb hv => by
              have z := S4.1.2.2.2.1.1
              have z' := S'.1.2.2.2.1.1
              have hv4 := S4.1.1.2.1.2.1
              exact stt_m (M := nX_ M3) (M1 := M') (b := b) hv4 (f'.2.1.2 61 (by decide)) z.2.2 z.1 (by rw [e84, ← e8]; exact z'.2.2) f'.2.2.2.1 hv
            have o := SOK_s (N1 := nx_ N1) (N2 := N') (Mq := N) (QSb_r f'.2.1 (by decide)) mono (fun hb => sm4.trans (smN hb)) hs
            have ok : sm a = true := ok1 sm ⟨fun hb t ht => o.1.1 hb t (by rw [nx_ne (r := 151) (by decide), stt_a (QF_QA nx_QF)]; exact ht), hs.2⟩
            have e := sy sm o.2
            rw [y70] at e
            rw [eN2 sm ok, gS_e h13, Option.bind_some]; exact e
          · exact hQ hb Mx' (XSb_tr f4.1 hx) (fun G Qtq hg => q7 G Qtq (hq G Qtq fun M' p => hg _ ⟨p.1, p.2.1, p.2.2.1, p.2.2.2.1, QSb_tr f4.2.1 p.2.2.2.2⟩))
        · have hsp := SQ_bf hE3 hb (k := 2) (by decide) QA_rf
          exact hQ hb _ (XSb_tr f3.1 (XA_XSb (XF_XA fl_XF))) (fun G Qtq hg => q6 G Qtq fun V' hV' hW' => j_242r hT3 hE3 hb (by decide) c h13 (q20_s hV' hW' hsp.1 (hg _ ⟨hsp.1, hsp.2.1, hsp.2.2.1, hsp.2.2.2.1, QSb_tr f3.2.1 (QA_QSb hsp.2.2.2.2)⟩)))
      · have c' : ¬ M 70 (a + 1) = 244 := by rw [← u70]; exact c
        rw [if_pos rfl]
        refine hK M3 N1 (a + 1) _ S3 m2 (by (clear hV hW hn h hm hS hK hQ hE hT ha h01 hV0 stopped eNM toQ sm1 hk1 h12 hE1 S1 hT1 hV1 h91 n91 x70 x151 est m1 q5 S2 f2 e34 hk hst q6 e18 s9 n151 n61 m2 S3 f3 u70 hE3 hT3 e18' smN ok1 c c'; lia)) f3 (fun sm hs => ?_) (fun G Qtq hg => q6 G Qtq fun V' hV' hW' => j_242f hT3 hE3 (by decide) c (hg V' hV' hW'))
        rw [eNM, if_pos (ok1 sm hs), tS_e hk1 h12, Option.bind_some, if_neg c']
    refine x_142R (d := 126) hT1 hV1 h91 n91 ?_
    rw [x151, est]
    have r := stt_r hV1 h91 (v := N 151 a)
    rw [est] at r
    have z9 := h91.1
    have e18 : nX_ M 1 18 = M 1 18 := nX_1 (by decide)
    have v61 : nx_ N 6 61 = nX_ M 1 18 := hV1.2.1
    have m8 : nX_ M 1 8 = b := hE1.2.2.2.2.2.2.1
    have n16 : nx_ N 6 16 = b := hE1.2.2.2.2.2.2.2.1
    intro _
    by_cases ck : stt N (N 151 a) = -1
    · have hb : b = 0 := by
        rcases h01 with hb | hb
        · exact hb
        · have := sm1 hb; unfold SMT at this; rw [decide_eq_true_eq] at this; exact absurd ck this
      rw [if_pos (by (clear hV hW hn h hm hS hK hQ hE hT ha h01 hV0 stopped eNM toQ sm1 hk1 h12 hE1 S1 hT1 hV1 h91 n91 x70 x151 est m1 q5 tail r z9 e18 v61 ck; lia)), if_pos ck]
      refine ⟨hV1.1, by have := hV1.2.2; omega, ?_⟩
      by_cases c12 : nX_ M 123 (nX_ M 1 18) = 12
      · rw [if_pos c12]
        refine x_110 ha.1 (by omega) (fun e => absurd e (by decide)) (fun _ => ?_)
        have e150 : nx_ N 150 a = M 71 a := by rw [nx_ne (by decide)]; exact ((hT a hE.1).2.1).symm
        have sp1 : sp_ (bf_ (nx_ N) 2 (M 71 a)) := bf_sp (n16.trans hb) (by decide)
        refine hQ hb _ (XSb_tr (XA_XSb (XF_XA nX_XF)) (XA_XSb (XF_XA fl_XF))) (fun G Qtq hg => q5 fun V' hV' hW' => q_305r hV1 h91 ⟨ha.1, by omega⟩ (n16.trans hb) (hE1.2.2.2.2.2.2.2.2.2.1 hb) (by rw [x151, est]; exact ck) (by rw [v61, z9.2.2]; exact c12) ?_)
        rw [e150]
        refine q_242s sp1 (q20_s hV' hW' sp1 (hg _ ⟨sp1, ?_, ?_, ?_, ?_⟩))
        · unfold in9_; rw [bf_6 (by decide) (by decide), hE1.2.2.1]; omega
        · unfold bf_ flX_; rw [up_off (by decide), up_at, up_off (by decide), up_at]
        · refine ⟨?_, fl_b7 (by assumption)⟩; unfold bf_ flX_; rw [up_at, up_at, nX_ne (by decide)]
        · exact QSb_tr (QA_QSb (QF_QA nx_QF)) (QA_QSb (QF_QA bf_QF))
      · rw [if_neg c12]
        refine x_110 ha.1 (by omega) (fun _ => ?_) (fun e => absurd rfl e)
        have lt12 : nX_ M 123 (nX_ M 1 18) < 12 := by (clear hV hW hn h hm hS hK hQ hE hT ha h01 hV0 stopped eNM toQ sm1 hk1 h12 hE1 S1 hT1 hV1 h91 n91 x70 x151 est m1 q5 tail r e18 v61 m8 n16 ck hb; lia)
        refine b_167_103 (Tr_mono _) hV hW _ _ _ _ ?_
        have w0 : w32 (w32 (12 * nX_ M 1 18) + nX_ M 123 (nX_ M 1 18)) = 12 * nX_ M 1 18 + nX_ M 123 (nX_ M 1 18) := by
          have := hV1.2.2
          rw [w32_id (x := 12 * nX_ M 1 18) (by (clear hV hW hn h hm hS hK hQ hE hT ha h01 hV0 stopped eNM toQ sm1 hk1 h12 hE1 S1 hT1 hV1 h91 n91 x70 x151 est m1 q5 tail r z9 m8 n16 ck hb c12 lt12; omega)) (by (clear hV hW hn h hm hS hK hQ hE hT ha h01 hV0 stopped eNM toQ sm1 hk1 h12 hE1 S1 hT1 hV1 h91 n91 x70 x151 est m1 q5 tail r z9 m8 n16 ck hb c12 lt12; omega)), w32_id (by (clear hV hW hn h hm hS hK hQ hE hT ha h01 hV0 stopped eNM toQ sm1 hk1 h12 hE1 S1 hT1 hV1 h91 n91 x70 x151 est m1 q5 tail r m8 n16 ck hb c12; omega)) (by (clear hV hW hn h hm hS hK hQ hE hT ha h01 hV0 stopped eNM toQ sm1 hk1 h12 hE1 S1 hT1 hV1 h91 n91 x70 x151 est m1 q5 tail r m8 n16 ck hb c12; omega))]
        rw [w0, w32_id (x := nX_ M 123 (nX_ M 1 18) + 1) (by (clear hV hW hn h hm hS hK hQ hE hT ha h01 hV0 stopped eNM toQ sm1 hk1 h12 hE1 S1 hT1 hV1 h91 n91 x70 x151 est m1 q5 tail r m8 n16 ck hb c12; lia)) (by (clear hV hW hn h hm hS hK hQ hE hT ha h01 hV0 stopped eNM toQ sm1 hk1 h12 hE1 S1 hT1 hV1 h91 n91 x70 x151 est m1 q5 tail r m8 n16 ck hb c12; lia))]
        refine ⟨by have := hV1.2.2; (clear hV hW hn h hm hS hK hQ hE hT ha h01 hV0 stopped eNM toQ sm1 hk1 h12 hE1 S1 hT1 hV1 h91 n91 x70 x151 est m1 q5 tail r m8 n16 ck hb c12; omega), hV1.1, by have := hV1.2.2; omega, by have := hV1.2.2; omega, ?_⟩
        have S2 := STA_ns S1 hb lt12 n91
        have f2 : NMF b M N (nsX (nX_ M) a) (nsQ (nx_ N) a) := by
          have fn : NMF b (nX_ M) (nx_ N) (nsX (nX_ M) a) (nsQ (nx_ N) a) := ⟨ns_X, ns_Q, (LKP_X (nsX_r (by decide) (by decide)) (nsX_r (by decide) (by decide)) (by rw [nsX_r (by decide) (by decide)]) (by rw [nsX_r (by decide) (by decide)])).1, SNW_ns hb hT1 h91 v61 hV1.2.2.1 lt12 n91, fun hb1 => by (clear hV hW hn h hm hS hK hQ hE hT ha h01 hV0 stopped eNM toQ sm1 hk1 h12 hE1 S1 hT1 hV1 h91 n91 x70 x151 est m1 q5 tail r z9 e18 v61 m8 ck c12 lt12 w0 S2; lia), nsX_r (by decide) (by decide), by rw [nsX_r (by decide) (by decide)], LBW_e (nsX_r (by decide) (by decide)) (nsX_r (by decide) (by decide)) (nsQ_r (by decide) (by decide) (by decide)) (nsQ_r (by decide) (by decide) (by decide)) (nsQ_r (by decide) (by decide) (by decide)) (fun _ => by rw [nsX_r (by decide) (by decide)]; exact ⟨rfl, rfl⟩)⟩
          have s9 := S2.1.2.2.2.1.1
          rw [nsX_r (r := 1) (by decide) (by decide), e18] at s9
          exact NMF_tr hV0.2.2.1 s9.2.1 NMF_go fn
        have x123 : nsX (nX_ M) a 123 (M 1 18) = nX_ M 123 (nX_ M 1 18) + 1 := by unfold nsX; rw [e18, up_at]
        have q174 : nsQ (nx_ N) a 174 (nx_ N 6 61) = nx_ N 174 (nx_ N 6 61) + 1 := by unfold nsQ; rw [up_at]
        have nst : stt (nsQ (nx_ N) a) (nsQ (nx_ N) a 151 a) ≠ -1 := by
          intro e
          unfold stt at e
          have e6 : nsQ (nx_ N) a 6 61 = nx_ N 6 61 := by rw [nsQ_r (by decide) (by decide) (by decide)]
          rw [e6, q174] at e
          have z0 : 0 ≤ nx_ N 174 (nx_ N 6 61) := by rw [v61]; (clear hV hW hn h hm hS hK hQ hE hT ha h01 hV0 stopped eNM toQ sm1 hk1 h12 hE1 S1 hT1 hV1 h91 n91 x70 x151 est m1 q5 tail r m8 n16 ck hb c12 S2 f2 q174 e e6; lia)
          have := fi_no _ _ _ _ e (Int.le_refl _) (nx_ N 174 (nx_ N 6 61)) z0 (by (clear hV hW hn h hm hS hK hQ hE hT ha h01 hV0 stopped eNM toQ sm1 hk1 h12 hE1 S1 hT1 hV1 h91 n91 x70 x151 est m1 q5 tail r z9 e18 v61 m8 n16 ck hb c12 lt12 w0 S2 f2 x123 q174 e e6; omega))
          apply this
          show nsQ (nx_ N) a 179 (12 * nx_ N 6 61 + nx_ N 174 (nx_ N 6 61)) = nsQ (nx_ N) a 151 a
          rw [nsQ_r (r := 151) (by decide) (by decide) (by decide)]
          unfold nsQ; rw [up_ne (by decide), up_ne (by decide), up_at]
        refine tail (nX_ M 123 (nX_ M 1 18)) (nsX (nX_ M) a) (nsQ (nx_ N) a) S2 f2 (by rw [nsX_r (by decide) (by decide)]; exact m1.2.1) (by rw [x123]; (clear hV hW hn h hm hS hK hQ hE hT ha h01 hV0 stopped eNM toQ sm1 hk1 h12 hE1 S1 hT1 hV1 h91 n91 x70 x151 est m1 q5 tail r m8 n16 ck hb c12 S2 f2 q174 nst; omega)) nst (fun G Qtq hq => q5 fun V' hV' hW' => ?_)
        refine q_305n hV1 h91 ⟨ha.1, by omega⟩ (n16.trans hb) (by rw [x151, est]; exact ck) (by rw [v61, z9.2.2]; exact lt12) ?_
        have e174 : nx_ N 174 (nx_ N 6 61) = nX_ M 123 (nX_ M 1 18) := by rw [v61, z9.2.2]
        rw [e174]
        exact hq V' hV' hW'
    · have hk : 0 ≤ stt N (N 151 a) ∧ stt N (N 151 a) < nX_ M 123 (M 1 18) := by
        rcases r with r | r
        · exact absurd r ck
        · rw [v61, z9.2.2, e18] at r; exact r
      have T := tail (stt N (N 151 a)) (nX_ M) (nx_ N) S1 NMF_go m1.2.1 hk (by rw [x151, est]; exact ck) (fun G Qtq hq => q5 fun V' hV' hW' => q_305k hV1 h91 ⟨ha.1, by omega⟩ (by rw [x151, est]; exact ck) (by rw [x151, est]; exact hq V' hV' hW'))
      rcases h01 with hb | hb
      · rw [if_pos (by omega), if_neg ck]; exact T
      · rw [if_neg (by (clear hV hW hn h hm hS hK hQ hE hT ha hV0 stopped eNM toQ sm1 hk1 h12 hE1 S1 hT1 hV1 h91 n91 x70 x151 est m1 q5 tail r z9 e18 v61 ck hk T; lia))]; exact T
end SP
end T221_sn
section T222_st
/-! a state whole (X 167 | Q 304) -/
def hdS (κ : Int → Int) (sm : Int → Bool) (a : Int) : Option Int := if κ a = 242 then gS a else NM κ sm a
def sttS (κ ν : Int → Int) (lm : Int → Int → Bool) (sm : Int → Bool) (s : sj_) : Option sj_ := (gS s.1).bind fun a1 => (hdS κ sm a1).bind fun a2 => (tS κ 259 a2).bind fun a3 => LNS κ ν lm (a3, s.2)
def qST (dq : Nat) (N : mm_) (G : mm_ → Prop) (Qt : qt_) : Prop := Tr_ wd0 pg0 (dq + 18) 228 [.inr (.inr 6), .inl 6] N (ri_ fun v4 M4 => if v4 = 0 then False else Tr_ wd0 pg0 (dq + 18) 304 [.inr (.inr 6)] M4 (rv_ G) Qt) Qt
def STF (b F F' : Int) (Mx Mq M N : mm_) : Prop := XSb Mx M ∧ QSb Mq N ∧ LKP b Mx M ∧ SNW b Mx Mq M N ∧ (F' ≤ F ∧ (b = 1 → F' = F)) ∧ LBW b Mx Mq M N
section SQs
variable {d dq : Nat} {b F F' F2 : Int} {M N M1 N1 M2 N2 Mx Mq : mm_} {a a' ee mask : Int} {Kv G : mm_ → Prop} {Qt Qtq : qt_} {V : vv_} {sm : Int → Bool}
theorem XSb_nX [Inhabited gh_] : XSb M (nX_ M) := XA_XSb (XF_XA nX_XF)
theorem XSb_34 [Inhabited gh_] {v : Int} : XSb M (up_ M 1 34 v) := ⟨fun r hr => up_ne (fun h => hr (by rw [h]; decide)), fun i hi => up_off (nm_i hi (by decide)), fun i _ _ => by rw [up_ne (by decide)]⟩
theorem SS_STA [Inhabited gh_] (h : SS b F M N a mask ee) : STA b F M N a ee := ⟨h.1, h.2.1, fun hb => ⟨(h.2.2.2 hb).1, (h.2.2.2 hb).2.1⟩⟩
theorem STF_tr [Inhabited gh_] (hT : 0 ≤ Mx 1 18) (h12 : M1 123 (Mx 1 18) ≤ 12) (h1 : STF b F F' Mx Mq M N) (h2 : STF b F' F2 M N M1 N1) : STF b F F2 Mx Mq M1 N1 := ⟨XSb_tr h1.1 h2.1, QSb_tr h1.2.1 h2.2.1, LKP_tr h1.2.2.1 h2.2.2.1, SNW_tr hT h12 (XSb_r h2.1 (by decide)) (h1.1.2.1 18 (by decide)) h1.2.2.2.1 h2.2.2.2.1, ⟨by have := h1.2.2.2.2.1.1; have := h2.2.2.2.2.1.1; (clear hT h12 h1 h2; lia), fun hb => (h2.2.2.2.2.1.2 hb).trans (h1.2.2.2.2.1.2 hb)⟩, LBW_tr h1.2.2.1 h1.2.2.2.2.2 h2.2.2.2.2.2⟩
theorem STF_n [Inhabited gh_] (h : NMF b M N M1 N1) : STF b F F M N M1 N1 := ⟨h.1, h.2.1, h.2.2.1, h.2.2.2.1, ⟨Int.le_refl _, fun _ => rfl⟩, h.2.2.2.2.2.2.2⟩
theorem STF_l [Inhabited gh_] (h : LNF b F F' M N M1 N1) : STF b F F' M N M1 N1 := ⟨h.1, h.2.1, h.2.2.1, SNW_N h.2.2.2.1, h.2.2.2.2⟩
theorem STF_rf [Inhabited gh_] : STF b F F M N M N := ⟨XSb_rf, QSb_rf, LKP_rf, SNW_rf, ⟨Int.le_refl _, fun _ => rfl⟩, LBW_e rfl rfl rfl rfl rfl (fun _ => ⟨rfl, rfl⟩)⟩
theorem SMT_c [Inhabited gh_] (h : STF b F F' M N M1 N1) (hb : b = 1) : SMT N1 = SMT N := by
  have ns := h.2.2.2.1.2.2.2.2 hb
  unfold SMT stt
  rw [QSb_r h.2.1 (r := 151) (by decide), h.2.1.2 61 (by decide), ns.2.2.1, ns.2.2.2.1]
/-- nothing new in the head -/
theorem PRS_h [Inhabited gh_] (h : HB b M N M1 N1) : PRS b M N M1 N1 := fun hb => by
  obtain ⟨a1, a2, a3, a4⟩ := h hb
  have c : ∀ i : Int, i = 19 ∨ i = 21 ∨ i = 22 ∨ i = 23 ∨ i = 29 → M1 1 i = M 1 i := fun i hi => a2 i (by (clear h hb a1 a2 a3 a4; lia)) (by (clear h hb a1 a2 a3 a4; lia))
  refine ⟨⟨OLX_1 a1 (fun i hi => a2 i (nm_i hi (by decide)) (nm_i hi (by decide))), OLQ_6 a3 (fun i hi => a4 i (nm_i hi (by decide)))⟩, by rw [c 29 (by omega), a4 76 (by decide)]; omega, fun hz => ⟨by rw [a4 13 (by decide)] at hz; exact hz, fun k x y => by rw [a4 62 (by decide)] at y; omega, fun l x y => by rw [c 19 (by (clear h hb a1 a2 a3 a4 c hz x y; lia))] at y; omega, fun x p q => by rw [c 29 (by omega)] at q; omega, ?_, ?_⟩⟩
  · unfold SBS
    rw [c 21 (by (clear h hb a1 a2 a3 a4 c hz; lia)), c 23 (by (clear h hb a1 a2 a3 a4 c hz; lia)), a4 75 (by decide)]
    refine ⟨fun s _ _ => ⟨fun h => .inl h, fun h => ?_⟩, fun s _ _ => ⟨fun h => .inl h, fun h => ?_⟩⟩
    · rcases h with h | ⟨k, h, _⟩
      · exact h
      · omega
    · rcases h with h | ⟨k, h, _⟩
      · exact h
      · omega
  · intro hg
    rw [c 22 (by (clear h hb a1 a2 a3 a4 c hz hg; lia))]
    refine ⟨hg, fun s _ _ => ⟨fun h => .inl h, fun h => ?_⟩⟩
    rcases h with h | ⟨k, i, hk, _⟩
    · exact h
    · rw [a4 62 (by decide)] at hk; omega
theorem STA_SCL [Inhabited gh_] (h : STA b F M N a ee) (hb : b = 1) : SCL M N := by
  obtain ⟨h1, ⟨s1, s2, s3⟩, h4⟩ := h
  obtain ⟨⟨xs, hs⟩, hl⟩ := h4 hb
  refine ⟨⟨s2.1, s3.1, h1.1.2.2.2.1.1, h1.2.2.2.2.1.2.1, h1.2.2.2.2.1.1.1, h1.2.2.2.2.2.2.2.2.1⟩, fun k k0 k1 => ?_, ?_⟩
  · have r := (hs.2 k k0 k1).2.2.2.1
    have e : agT N k = N 199 k := by
      unfold agT
      by_cases c : k = N 6 62 - 1
      · rw [if_pos c, c, hl (by (clear hb h1 h4 s1 s2 s3 hl hs k1 r; omega))]
      · rw [if_neg c]
    rw [e] at r
    exact r
  · rw [← SRW_x hs hl _ (by (clear hb h1 h4 s1 s3 hl hs; omega)), show (((N 6 62).toNat : Nat) : Int) = N 6 62 by omega]; exact hs.1.2.2
theorem q_304z [Inhabited gh_] {d : Nat} (hs : sp_ N) (h : G N) : Tr_ wd0 pg0 (d + 18) 304 [.inr (.inr 6)] N (rv_ G) Qt := t_304 fun V hV hW => b_304_0 (Tr_mono _) hV hW _ (q_242s hs (by rw [if_pos rfl]; exact q20_s (dq := d) hV hW hs h))
theorem y_167 [Inhabited gh_] (h : STA b F Mx Mq a 0) (hk : Mx 70 a = 6) (hS : b = 1 → sttS (Mx 70) (Mx 73) (LMT Mx) (SMT Mq) (a, lc_ b Mx) ≠ none)
    (hK : ∀ F' M' N' a', STA b F' M' N' a' 0 → a + 3 ≤ a' → PRS b Mx Mq M' N' → STF b F F' Mx Mq M' N' → (∀ lm sm, LOK b lm Mx M' → SOK b sm Mq N' → sttS (Mx 70) (Mx 73) lm sm (a, lc_ b Mx) = some (a', lc_ b M')) → (∀ (G : mm_ → Prop) (Qtq : qt_), G N' → qST dq Mq G Qtq) → Kv M')
    (hQ : b = 0 → ∀ Mx', XSb Mx Mx' → (∀ (G : mm_ → Prop) (Qtq : qt_), (∀ M', SQb Mx' Mq M' → G M') → qST dq Mq G Qtq) → Qt 8 Mx') :
    Tr_ wd0 pg0 130 167 [.inr (.inr 1)] Mx (rv_ Kv) Qt := by
  have hE := TS_E h.1
  have hT := h.1.1.1
  have ha := ER_a hE
  have h01 := bl01 hE
  have hV0 := h.1.1.2.1
  have stopped : ∀ {Mx' M2 : mm_}, SQ Mx' Mq M2 → SQb Mx' Mq M2 := fun hs => ⟨hs.1, hs.2.1, hs.2.2.1, hs.2.2.2.1, QA_QSb hs.2.2.2.2⟩
  refine t_167 fun V hV hW => b_167_0 (Tr_mono _) hV hW _ ?_
  refine y_105 hE (by (clear h hS hK hQ hE hT ha h01 hV0 stopped hV hW; omega)) (fun hb => bind_n (hS hb)) (fun h12 hE1 => ?_) (fun hb h12 => ?_)
  rotate_left
  · have hsp := SQ_bf hE hb (k := 2) (by decide) QA_rf
    exact hQ hb _ (XA_XSb (XF_XA fl_XF)) (fun G Qtq hg => j_228r hT hE hb (by decide) hk h12 (by rw [if_neg (by decide)]; exact q_304z hsp.1 (hg _ (stopped hsp))))
  have eS : ∀ lm sm j, sttS (Mx 70) (Mx 73) lm sm (a, j) = (hdS (Mx 70) sm (a + 1)).bind fun a2 => (tS (Mx 70) 259 a2).bind fun a3 => LNS (Mx 70) (Mx 73) lm (a3, j) := fun lm sm j => by unfold sttS; rw [gS_e h12, Option.bind_some]
  have S1 : STA b F (up_ (nX_ Mx) 1 34 0) (nx_ Mq) (a + 1) (0 - 1) := STA_34 (STA_go h hE1)
  have hE1' := TS_E S1.1
  have hT1 := S1.1.1.1
  have u12 : ∀ {M1 N1 : mm_} {a1 e1 F1 : Int}, STA b F1 M1 N1 a1 e1 → XSb Mx M1 → M1 123 (Mx 1 18) ≤ 12 := fun hs hx => by
    have := hs.1.2.2.2.1.1
    rw [hx.2.1 18 (by decide)] at this; exact this.2.1
  have f1 : NMF b Mx Mq (up_ (nX_ Mx) 1 34 0) (nx_ Mq) := NMF_tr hV0.2.2.1 (u12 S1 (XSb_tr XSb_nX XSb_34)) NMF_go NMF_34
  have m1 : MKS (up_ (nX_ Mx) 1 34 0) 0 := ⟨by decide, up_at, fun l _ e => absurd e bt_0⟩
  have x70 : up_ (nX_ Mx) 1 34 0 70 = Mx 70 := XSb_r f1.1 (by decide)
  have toQ : ∀ {G : mm_ → Prop} {Qtq : qt_}, (∀ V' : vv_, Cl_ wd0 (Tr_ wd0 pg0 (dq + 17)) V' (rv_ G) Qtq m_304 → Wk_ V' → V' 0 [rr 6, none, none, none] [] (nx_ Mq)) → qST dq Mq G Qtq := fun hq => j_228t hT hE (by decide) hk h12 (by
    rw [if_neg (by decide)]
    exact t_304 fun V' hV' hW' => hq V' hV' hW')
  have bnd := S1.2.1
  -- from the semicolon on
  have rest : ∀ (M2 N2 : mm_) (a2 mask : Int), SS b F M2 N2 a2 mask (-2) → a + 2 ≤ a2 → NMF b Mx Mq M2 N2 → (∀ sm, SOK b sm Mq N2 → hdS (Mx 70) sm (a + 1) = some a2) → (∀ (G : mm_ → Prop) (Qtq : qt_), (∀ V' : vv_, Cl_ wd0 (Tr_ wd0 pg0 (dq + 17)) V' (rv_ G) Qtq m_304 → Wk_ V' → Tr_ wd0 pg0 (dq + 17) 244 [.inr (.inr 6), .inl 59] N2 (rv_ fun M1 => V' 70 [rr 6, ii mask, ii 1, none] [] M1) Qtq) → qST dq Mq G Qtq) →
      Tr_ wd0 pg0 129 121 [.inr (.inr 1), .inl 59] M2 (rv_ fun M4 => V 172 [rr 1, ii 1, none, none] [] M4) Qt := fun M2 N2 a2 mask S2 ha2 f2 sy2 q2 => by
    have hE2 := TS_E S2.1
    have hT2 := S2.1.1.1
    have y70 : M2 70 = Mx 70 := XSb_r f2.1 (by decide)
    have y73 : M2 73 = Mx 73 := XSb_r f2.1 (by decide)
    have lc2 : lc_ b M2 = lc_ b Mx := by
      unfold lc_; rw [f2.2.2.2.2.2.1, f2.2.2.2.2.2.2.1, f2.1.2.1 18 (by decide)]
    have eS2 : ∀ lm sm j, SOK b sm Mq N2 → sttS (Mx 70) (Mx 73) lm sm (a, j) = (tS (Mx 70) 259 a2).bind fun a3 => LNS (Mx 70) (Mx 73) lm (a3, j) := fun lm sm j hs => by rw [eS, sy2 sm hs, Option.bind_some]
    have sok1 : b = 1 → SOK b (SMT Mq) Mq N2 := fun hb => ⟨fun hb0 => by omega, fun _ => rfl⟩
    refine y_121 hE2 (by decide) (fun hb => by have := hS hb; rw [eS2 _ _ _ (sok1 hb)] at this; rw [y70]; exact bind_n this) (fun k2 h13 hE3 => ?_) (fun hb k2 h13 => ?_) (fun hb k2 => ?_)
    · have k2' : Mx 70 a2 = 259 := by rw [← y70]; exact k2
      have eS3 : ∀ lm sm j, SOK b sm Mq N2 → sttS (Mx 70) (Mx 73) lm sm (a, j) = LNS (Mx 70) (Mx 73) lm (a2 + 1, j) := fun lm sm j hs => by rw [eS2 lm sm j hs, tS_e k2' h13, Option.bind_some]
      have S3 : SS b F (nX_ M2) (nx_ N2) (a2 + 1) mask 0 := SS_le (SS_go S2 hE3) (by decide)
      have f3 : NMF b Mx Mq (nX_ M2) (nx_ N2) := NMF_tr hV0.2.2.1 (u12 (SS_STA S3) (XSb_tr f2.1 XSb_nX)) f2 NMF_go
      have z70 : nX_ M2 70 = Mx 70 := by rw [nX_ne (by decide)]; exact y70
      have z73 : nX_ M2 73 = Mx 73 := by rw [nX_ne (by decide)]; exact y73
      have lc3 : lc_ b (nX_ M2) = lc_ b Mx := (LKP_F (b := b) (nX_XF (M := M2))).2.trans lc2
      have q3 : ∀ (G : mm_ → Prop) (Qtq : qt_), q70 dq mask 1 (nx_ N2) G Qtq → qST dq Mq G Qtq := fun G Qtq hq => q2 G Qtq fun V' hV' hW' => j_244t hT2 hE2 (by decide) k2 h13 (hq V' hV' hW')
      refine l_172 (dq := dq) hV hW 1201 (a2 + 1) F (nX_ M2) (nx_ N2) (by have := ER_a hE3; omega) S3 (fun hb => ?_) (fun F' M' N' a' S' ha' P' L' h7 sy' hq' => ?_) (fun hb Mx' hx hq => ?_)
      · have h9 := hS hb
        rw [eS3 _ _ _ (sok1 hb)] at h9
        rw [z70, z73, lc3, f3.2.2.1.2.2.2 hb]; exact h9
      · have L9 := STF_l L'
        have f9 : STF b F F' Mx Mq M' N' := STF_tr hV0.2.2.1 (u12 (SS_STA S') (XSb_tr f3.1 L'.1)) (STF_n (F := F) f3) L9
        refine hK F' M' N' a' (SS_STA S') (by (clear h hk hS hK hQ hE hT ha h01 hV0 stopped hV hW h12 hE1 eS S1 hE1' hT1 u12 f1 m1 x70 toQ bnd S2 f2 sy2 q2 hE2 hT2 y70 y73 lc2 eS2 sok1 k2 h13 hE3 k2' eS3 S3 f3 z70 z73 lc3 q3 S' P' L' h7 sy' hq' L9 f9; omega)) (PRS_tr (fun hb => STA_SCL h hb) (fun hb => SS_SCL S3 hb) (PRS_h f3.2.2.2.2.1) P') f9 (fun lm sm hlm hsm => ?_) (fun G Qtq hg => q3 G Qtq (hq' G Qtq hg))
        have l := LOK_s f3.2.2.1 L'.2.2.1 hlm
        have e := sy' lm l.2
        rw [z70, z73, lc3] at e
        rw [eS3 lm sm _ ?_]
        · exact e
        · have nst := L'.2.2.2.1
          refine ⟨fun hb t ht => hsm.1 hb t ?_, hsm.2⟩
          have e1 : ∀ v, stt N' v = stt N2 v := fun v => by
            unfold stt
            rw [nst.2.2.1, nst.2.2.2.1, L'.2.1.2 61 (by decide), nx_ne (r := 179) (by decide), nx_ne (r := 174) (by decide), nx_6 (by decide)]
          rw [e1, QSb_r L'.2.1 (r := 151) (by decide), nx_ne (r := 151) (by decide)]; exact ht
      · exact hQ hb Mx' (XSb_tr f3.1 hx) (fun G Qtq hg => q3 G Qtq (hq G Qtq fun M' p => hg _ ⟨p.1, p.2.1, p.2.2.1, p.2.2.2.1, QSb_tr f3.2.1 p.2.2.2.2⟩))
    · have hsp := SQ_bf hE2 hb (k := 2) (by decide) QA_rf
      exact hQ hb _ (XSb_tr f2.1 (XA_XSb (XF_XA fl_XF))) (fun G Qtq hg => q2 G Qtq fun V' hV' hW' => j_244r hT2 hE2 hb (by decide) k2 h13 (q70_s hV' hW' hsp.1 (hg _ ⟨hsp.1, hsp.2.1, hsp.2.2.1, hsp.2.2.2.1, QSb_tr f2.2.1 (QA_QSb hsp.2.2.2.2)⟩)))
    · have hsp := SQ_bf hE2 hb (k := 1) (by decide) QA_rf
      exact hQ hb _ (XSb_tr f2.1 (XA_XSb (XF_XA fl_XF))) (fun G Qtq hg => q2 G Qtq fun V' hV' hW' => j_244w hT2 hE2 hb (by decide) k2 (q70_s hV' hW' hsp.1 (hg _ ⟨hsp.1, hsp.2.1, hsp.2.2.1, hsp.2.2.2.1, QSb_tr f2.2.1 (QA_QSb hsp.2.2.2.2)⟩)))
  refine y_117 hE1' (by decide) (fun c => ?_) (fun c => ?_)
  · -- '*'
    rw [if_neg (by decide)]
    have c' : Mx 70 (a + 1) = 242 := by rw [← x70]; exact c
    have eH : ∀ sm, hdS (Mx 70) sm (a + 1) = gS (a + 1) := fun sm => by unfold hdS; rw [if_pos c']
    refine y_105 hE1' (by rw [c]; decide) (fun hb => by have := hS hb; rw [eS, eH] at this; exact bind_n this) (fun h13 hE2 => ?_) (fun hb h13 => ?_)
    · have S2 := STA_go S1 hE2
      have v2 := S2.1.1.2.1
      refine ⟨v2.1, by have := v2.2.2; omega, ?_⟩
      have S3 : STA b F (up_ (nX_ (up_ (nX_ Mx) 1 34 0)) 1 34 (w32 (sl_ 1 (nX_ (up_ (nX_ Mx) 1 34 0) 123 (nX_ (up_ (nX_ Mx) 1 34 0) 1 18)) - 1))) (nx_ (nx_ Mq)) (a + 1 + 1) (0 - 1 - 1) := STA_34 S2
      have S4 := STA_SA S3 (by rw [up_at, up_ne (by decide), up_off (by decide)])
      have f3 : NMF b Mx Mq (up_ (nX_ (up_ (nX_ Mx) 1 34 0)) 1 34 (w32 (sl_ 1 (nX_ (up_ (nX_ Mx) 1 34 0) 123 (nX_ (up_ (nX_ Mx) 1 34 0) 1 18)) - 1))) (nx_ (nx_ Mq)) := NMF_tr hV0.2.2.1 (u12 S3 (XSb_tr f1.1 (XSb_tr XSb_nX XSb_34))) f1 (NMF_tr (by rw [f1.1.2.1 18 (by decide)]; exact hV0.2.2.1) (by have := u12 S3 (XSb_tr f1.1 (XSb_tr XSb_nX XSb_34)); rw [f1.1.2.1 18 (by decide)]; exact this) NMF_go NMF_34)
      refine rest _ (nx_ (nx_ Mq)) (a + 1 + 1) 4095 S4 (by omega) f3 (fun sm _ => by rw [eH]; exact gS_e h13) (fun G Qtq hq => toQ fun V' hV' hW' => b_304_0 (Tr_mono _) hV' hW' _ ?_)
      refine j_242t hT1 hE1' (by decide) c h13 ?_
      rw [if_neg (by decide)]
      exact hq V' hV' hW'
    · have hsp := SQ_bf hE1' hb (k := 2) (by decide) QA_rf
      refine hQ hb _ (XSb_tr f1.1 (XA_XSb (XF_XA fl_XF))) (fun G Qtq hg => toQ fun V' hV' hW' => b_304_0 (Tr_mono _) hV' hW' _ ?_)
      refine j_242r hT1 hE1' hb (by decide) c h13 ?_
      rw [if_neg (by decide)]
      exact q_244s hsp.1 (q70_s hV' hW' hsp.1 (hg _ ⟨hsp.1, hsp.2.1, hsp.2.2.1, hsp.2.2.2.1, QSb_tr f1.2.1 (QA_QSb hsp.2.2.2.2)⟩))
  · rw [if_pos rfl]
    have c' : ¬ Mx 70 (a + 1) = 242 := by rw [← x70]; exact c
    have eH : ∀ sm, hdS (Mx 70) sm (a + 1) = NM (Mx 70) sm (a + 1) := fun sm => by unfold hdS; rw [if_neg c']
    have q1 : ∀ (G : mm_ → Prop) (Qtq : qt_), q20 dq 0 1 (nx_ Mq) G Qtq → qST dq Mq G Qtq := fun G Qtq hq => toQ fun V' hV' hW' => b_304_0 (Tr_mono _) hV' hW' _ (j_242f hT1 hE1' (by decide) c (by rw [if_pos rfl]; exact hq V' hV' hW'))
    have sm1 : SMT (nx_ Mq) = SMT Mq := by
      unfold SMT; rw [nx_ne (r := 151) (by decide)]; funext t; rw [stt_a (QF_QA nx_QF)]
    refine l_47 (dq := dq) hV hW 1201 (a + 1) (0 - 1) 0 (up_ (nX_ Mx) 1 34 0) (nx_ Mq) (by omega) S1 m1 (fun hb => ?_) (fun M2 N2 a2 mask S2 m2 ha2 f2 sy hq => ?_) (fun hb Mx' hx hq => ?_)
    · have h9 := hS hb
      rw [eS, eH] at h9
      rw [x70, sm1]
      exact fun e => h9 (by
        cases e2 : NM (Mx 70) (SMT Mq) (a + 1) with
        | none => rfl
        | some x =>
          rw [e2, Option.bind_some] at e
          rw [Option.bind_some, e]; rfl)
    · rw [x70] at sy
      have e18 : up_ (nX_ Mx) 1 34 0 1 18 = Mx 1 18 := f1.1.2.1 18 (by decide)
      have f3 : NMF b Mx Mq M2 N2 := NMF_tr hV0.2.2.1 (u12 S2 (XSb_tr f1.1 f2.1)) f1 f2
      refine b_167_47 (Tr_mono _) hV hW _ _ ?_
      rw [if_pos rfl]
      refine rest M2 N2 a2 mask (STA_SS S2 m2) (by omega) f3 (fun sm hs => ?_) (fun G Qtq hg => q1 G Qtq (hq G Qtq fun V' hV' hW' => b_304_20 (Tr_mono _) hV' hW' _ _ _ (by rw [if_pos rfl]; exact hg V' hV' hW')))
      rw [eH]
      exact sy sm ⟨hs.1, fun hb => by rw [sm1]; exact hs.2 hb⟩
    · exact hQ hb Mx' (XSb_tr f1.1 hx) (fun G Qtq hg => q1 G Qtq (hq G Qtq fun M' p => hg _ ⟨p.1, p.2.1, p.2.2.1, p.2.2.2.1, QSb_tr f1.2.1 p.2.2.2.2⟩))
end SQs
end T222_st
section T223_ps
/-! the states of a process and its end (X 126 V 461 | Q 252 V 259) -/
def psT (κ ν : Int → Int) (lm : Int → Int → Bool) (sm : Int → Bool) (s : sj_) : Option (sj_ ⊕ sj_) := if κ s.1 = 6 then (sttS κ ν lm sm s).bind fun r => some (.inl r) else (tS κ 20 s.1).bind fun a1 => (tS κ 259 a1).bind fun a2 => some (.inr (a2, s.2))
def PSS (κ ν : Int → Int) (lm : Int → Int → Bool) (sm : Int → Bool) (s : sj_) : Option sj_ := LQ (psT κ ν lm sm) s
section PSs
variable {κ ν : Int → Int} {lm : Int → Int → Bool} {sm : Int → Bool} {a j : Int} {s r : sj_}
theorem LNS_s [Inhabited gh_] (h0 : 0 ≤ s.1) (h1 : s.1 ≤ 1200) (h : LNS κ ν lm s = some r) : s.1 ≤ r.1 ∧ r.1 ≤ 1200 := lqS_r (step := lnT κ ν lm) (fun s => s.1) (fun s => s.1) (fun s s' => lnT_l s s') (fun s a h0 h1 h => by
  unfold lnT at h
  split at h
  · obtain ⟨x, e, h⟩ := bind_s h
    injection h with h; cases h
  · split at h
    · obtain ⟨x, e, h⟩ := bind_s h
      injection h with h; cases h
    · split at h
      · obtain ⟨x, e, h⟩ := bind_s h
        injection h with h; cases h
      · split at h
        · obtain ⟨x, e, h⟩ := bind_s h
          injection h with h; cases h
        · injection h with h; injection h with h; rw [← h]; exact ⟨Int.le_refl _, h1⟩) 1300 s r h0 h1 h
theorem NM_s [Inhabited gh_] {a r : Int} (h0 : 0 ≤ a) (h1 : a ≤ 1200) (h : NM κ sm a = some r) : a ≤ r ∧ r ≤ 1200 := lpS_r (step := nmT κ sm) (fun s => s) (fun s s' => nmT_l s s') (fun s a h0 h1 h => by
  unfold nmT at h
  split at h
  · obtain ⟨x, e1, h⟩ := bind_s h
    have t := tS_s e1
    split at h
    · obtain ⟨y, e2, h⟩ := bind_s h
      injection h with h; cases h
    · injection h with h; injection h with h; omega
  · cases h) 1300 a r h0 h1 h
theorem sttS_s [Inhabited gh_] (h0 : 0 ≤ s.1) (h1 : s.1 ≤ 1200) (h : sttS κ ν lm sm s = some r) : s.1 + 1 ≤ r.1 ∧ r.1 ≤ 1200 := by
  unfold sttS at h
  obtain ⟨x, e1, h⟩ := bind_s h
  have g := gS_s e1
  obtain ⟨y, e2, h⟩ := bind_s h
  have g2 : x ≤ y ∧ y ≤ 1200 := by
    unfold hdS at e2
    split at e2
    · have := gS_s e2; omega
    · exact NM_s (by omega) (by omega) e2
  obtain ⟨z, e3, h⟩ := bind_s h
  have g3 := tS_s e3
  have := LNS_s (s := (z, s.2)) (show (0 : Int) ≤ z by omega) (show z ≤ 1200 by omega) h
  have : z ≤ r.1 ∧ r.1 ≤ 1200 := this
  (clear h0 h1 e1 e2 e3 h this; omega)
theorem psT_l [Inhabited gh_] (s s' : sj_) (h0 : 0 ≤ s.1) (h1 : s.1 ≤ 1200) (h : psT κ ν lm sm s = some (.inl s')) : s.1 + 1 ≤ s'.1 ∧ s'.1 ≤ 1200 := by
  unfold psT at h
  split at h
  · obtain ⟨x, e, h⟩ := bind_s h
    injection h with h; injection h with h; rw [← h]; exact sttS_s h0 h1 e
  · obtain ⟨x, e, h⟩ := bind_s h
    obtain ⟨y, e, h⟩ := bind_s h
    injection h with h; cases h
theorem PSS_u [Inhabited gh_] (h0 : 0 ≤ a) (h1 : a ≤ 1200) : PSS κ ν lm sm (a, j) = (psT κ ν lm sm (a, j)).bind (lk9 (PSS κ ν lm sm)) := LQ_u (step := psT κ ν lm sm) (fun s => s.1) (fun s s' => psT_l s s') (s := (a, j)) h0 h1
theorem PSS_6 [Inhabited gh_] (h0 : 0 ≤ a) (h1 : a ≤ 1200) (hk : κ a = 6) : PSS κ ν lm sm (a, j) = (sttS κ ν lm sm (a, j)).bind (PSS κ ν lm sm) := by
  have y : ∀ {L : sj_ → Option sj_} {X : Option sj_}, psT κ ν lm sm (a, j) = (X.bind fun r => some (.inl r)) → (psT κ ν lm sm (a, j)).bind (lk9 L) = X.bind L := fun hX => by
    rw [hX]
    rename_i L X
    cases X with
    | none => rfl
    | some x => rfl
  exact (PSS_u h0 h1).trans (y (by unfold psT; rw [if_pos hk]))
theorem PSS_0 [Inhabited gh_] (h0 : 0 ≤ a) (h1 : a ≤ 1200) (hk : κ a ≠ 6) : PSS κ ν lm sm (a, j) = (tS κ 20 a).bind fun a1 => (tS κ 259 a1).bind fun a2 => some (a2, j) := by
  have y : ∀ {L : sj_ → Option sj_} {X : Option Int}, psT κ ν lm sm (a, j) = (X.bind fun a1 => (tS κ 259 a1).bind fun a2 => some (.inr (a2, j))) → (psT κ ν lm sm (a, j)).bind (lk9 L) = X.bind fun a1 => (tS κ 259 a1).bind fun a2 => some (a2, j) := fun hX => by
    rw [hX]
    rename_i L X
    cases X with
    | none => rfl
    | some x =>
      rw [Option.bind_some, Option.bind_some]
      cases tS κ 259 x with
      | none => rfl
      | some z => rfl
  exact (PSS_u h0 h1).trans (y (by unfold psT; rw [if_neg hk]))
end PSs
def q59 (dq : Nat) (x1 x2 x3 x4 x5 x6 : Int) (N : mm_) (G : mm_ → Prop) (Qt : qt_) : Prop := ∀ V : vv_, Cl_ wd0 (Tr_ wd0 pg0 (dq + 18)) V (rv_ G) Qt m_252 → Wk_ V → V 259 [rr 6, ii x1, ii x2, ii x3, ii x4, ii x5, ii x6] [] N
def R461 (Kv : mm_ → Prop) (Qt : qt_) (M3 : mm_) : Prop := bl_ (M3 1 8) → (if M3 1 8 = 0 then rv_ Kv [] M3 else Tr_ wd0 pg0 130 178 [.inr (.inr 1)] M3 (rv_ fun M4 => rv_ Kv [] M4) Qt)
section PU
variable {dq : Nat} {b : Int} {x1 x2 x3 x4 x5 x6 y1 y2 y3 : Int} {Kv G : mm_ → Prop} {Qt Qtq : qt_} {V : vv_} {N : mm_}
theorem q59_s [Inhabited gh_] {V' : vv_} (hV : Cl_ wd0 (Tr_ wd0 pg0 (dq + 18)) V' (rv_ G) Qtq m_252) (hW : Wk_ V') (hs : sp_ N) (h : G N) : V' 259 [rr 6, ii x1, ii x2, ii x3, ii x4, ii x5, ii x6] [] N := b_252_259 (Tr_mono _) hV hW _ _ _ _ _ _ _ (q_228s hs (by rw [if_pos rfl]; exact q_250s hs (q_244s hs (rv_i h))))
theorem l_461 [Inhabited gh_] (hV : Cl_ wd0 (Tr_ wd0 pg0 130) V (rv_ Kv) Qt m_126) (hW : Wk_ V) :
    ∀ (n : Nat) (a F : Int) (Mx Mq : mm_), 1201 - a ≤ (n : Int) → STA b F Mx Mq a 0 → (b = 1 → PSS (Mx 70) (Mx 73) (LMT Mx) (SMT Mq) (a, lc_ b Mx) ≠ none) →
    (∀ F' M' N' a', STA b F' M' N' a' 0 → a + 2 ≤ a' → PRS b Mx Mq M' N' → STF b F F' Mx Mq M' N' → (∀ lm sm, LOK b lm Mx M' → SOK b sm Mq N' → PSS (Mx 70) (Mx 73) lm sm (a, lc_ b Mx) = some (a', lc_ b M')) → (∀ (G : mm_ → Prop) (Qtq : qt_), G N' → q59 dq x1 x2 x3 x4 x5 x6 Mq G Qtq) → R461 Kv Qt M') →
    (b = 0 → ∀ Mx', XSb Mx Mx' → (∀ (G : mm_ → Prop) (Qtq : qt_), (∀ M', SQb Mx' Mq M' → G M') → q59 dq x1 x2 x3 x4 x5 x6 Mq G Qtq) → Qt 8 Mx') →
    V 461 [rr 1, ii y1, ii y2, ii y3, none, none, none] [] Mx
  | 0, a, F, Mx, Mq, hn, h, _, _, _ => by have := ER_a (TS_E h.1); omega
  | n + 1, a, F, Mx, Mq, hn, h, hS, hK, hQ => by
    have hE := TS_E h.1
    have hT := h.1.1.1
    have ha := ER_a hE
    have hV0 := h.1.1.2.1
    have u12 : ∀ {M1 N1 : mm_} {a1 e1 F1 : Int}, STA b F1 M1 N1 a1 e1 → XSb Mx M1 → M1 123 (Mx 1 18) ≤ 12 := fun hs hx => by
      have := hs.1.2.2.2.1.1
      rw [hx.2.1 18 (by decide)] at this; exact this.2.1
    refine b_126_461 (Tr_mono _) hV hW _ _ _ _ ?_
    refine y_103 hE (fun c => ?_) (fun c => ?_)
    · rw [if_neg (by decide)]
      have eS : ∀ lm sm, PSS (Mx 70) (Mx 73) lm sm (a, lc_ b Mx) = (sttS (Mx 70) (Mx 73) lm sm (a, lc_ b Mx)).bind (PSS (Mx 70) (Mx 73) lm sm) := fun lm sm => PSS_6 ha.1 ha.2 c
      have toQ : ∀ (G : mm_ → Prop) (Qtq : qt_), (∀ V' : vv_, Cl_ wd0 (Tr_ wd0 pg0 (dq + 18)) V' (rv_ G) Qtq m_252 → Wk_ V' → qST dq Mq (fun M4 => V' 259 [rr 6, ii x1, ii x2, ii x3, ii x4, ii x5, ii x6] [] M4) Qtq) → q59 dq x1 x2 x3 x4 x5 x6 Mq G Qtq := fun G Qtq hq V' hV' hW' => b_252_259 (Tr_mono _) hV' hW' _ _ _ _ _ _ _ (Tr_ri (hq V' hV' hW') (fun v M2 k => by
        by_cases c : v = 0
        · rw [if_pos c] at k; exact k.elim
        · rw [if_neg c] at k ⊢; exact k))
      refine y_167 (dq := dq) h c (fun hb => by have := hS hb; rw [eS] at this; exact bind_n this) (fun F' M9 N9 a9 S9 ha9 P9 f9 sy q9 => ?_) (fun hb Mx' hx hq => ?_)
      · have x70 : M9 70 = Mx 70 := f9.1.1 70 (by decide)
        have x73 : M9 73 = Mx 73 := f9.1.1 73 (by decide)
        refine l_461 hV hW n a9 F' M9 N9 (by omega) S9 (fun hb => ?_) (fun F2 M' N' a' S' ha' P' f' sy' hq' => ?_) (fun hb Mx' hx hq => ?_)
        · have h9 := hS hb
          rw [eS, sy _ _ ⟨fun hb0 => by omega, fun _ => rfl⟩ ⟨fun hb0 => by omega, fun _ => rfl⟩, Option.bind_some] at h9
          rw [x70, x73, f9.2.2.1.2.2.2 hb, SMT_c f9 hb]; exact h9
        · refine hK F2 M' N' a' S' (by omega) (PRS_tr (fun hb => STA_SCL h hb) (fun hb => STA_SCL S9 hb) P9 P') (STF_tr hV0.2.2.1 (u12 S' (XSb_tr f9.1 f'.1)) f9 f') (fun lm sm hlm hsm => ?_) (fun G Qtq hg => toQ G Qtq fun V' hV' hW' => q9 _ _ (hq' G Qtq hg V' hV' hW'))
          have l := LOK_s f9.2.2.1 f'.2.2.1 hlm
          have mono : ∀ v, b = 0 → stt N9 v ≠ -1 → stt N' v ≠ -1 := fun v hb hv => by
            have z := S9.1.2.2.2.1.1
            have z' := S'.1.2.2.2.1.1
            have e8 : M' 1 18 = M9 1 18 := f'.1.2.1 18 (by decide)
            exact stt_m (M := M9) (M1 := M') (b := b) S9.1.1.2.1.2.1 (f'.2.1.2 61 (by decide)) z.2.2 z.1 (by rw [← e8]; exact z'.2.2) f'.2.2.2.1 hv
          have o := SOK_s (N1 := N9) (N2 := N') (Mq := Mq) (QSb_r f'.2.1 (by decide)) mono (fun hb => SMT_c f9 hb) hsm
          have e := sy' lm sm l.2 o.2
          rw [x70, x73] at e
          rw [eS, sy lm sm l.1 o.1, Option.bind_some]; exact e
        · exact hQ hb Mx' (XSb_tr f9.1 hx) (fun G Qtq hg => toQ G Qtq fun V' hV' hW' => q9 _ _ (hq G Qtq (fun M' p => hg _ ⟨p.1, p.2.1, p.2.2.1, p.2.2.2.1, QSb_tr f9.2.1 p.2.2.2.2⟩) V' hV' hW'))
      · exact hQ hb Mx' hx (fun G Qtq hg => toQ G Qtq fun V' hV' hW' => hq _ _ fun M' p => q59_s hV' hW' p.1 (hg _ p))
    · rw [if_pos rfl]
      have eS : ∀ lm sm, PSS (Mx 70) (Mx 73) lm sm (a, lc_ b Mx) = (tS (Mx 70) 20 a).bind fun a1 => (tS (Mx 70) 259 a1).bind fun a2 => some (a2, lc_ b Mx) := fun lm sm => PSS_0 ha.1 ha.2 c
      have toQ : ∀ {G : mm_ → Prop} {Qtq : qt_}, (∀ V' : vv_, Cl_ wd0 (Tr_ wd0 pg0 (dq + 18)) V' (rv_ G) Qtq m_252 → Wk_ V' → Tr_ wd0 pg0 (dq + 18) 250 [.inr (.inr 6), .inl 20] Mq (rv_ fun M2 => Tr_ wd0 pg0 (dq + 18) 244 [.inr (.inr 6), .inl 59] M2 (rv_ fun M3 => rv_ G [] M3) Qtq) Qtq) → q59 dq x1 x2 x3 x4 x5 x6 Mq G Qtq := fun hq V' hV' hW' => b_252_259 (Tr_mono _) hV' hW' _ _ _ _ _ _ _ (j_228f hT hE (by decide) c (by rw [if_pos rfl]; exact hq V' hV' hW'))
      have stopped : ∀ {Mx' M2 : mm_}, SQ Mx' Mq M2 → SQb Mx' Mq M2 := fun hs => ⟨hs.1, hs.2.1, hs.2.2.1, hs.2.2.2.1, QA_QSb hs.2.2.2.2⟩
      refine y_108 hE (by decide) (fun hb => by have := hS hb; rw [eS] at this; exact bind_n this) (fun k1 h12 hE1 => ?_) (fun hb k1 h12 => ?_) (fun hb k1 => ?_)
      rotate_left
      · have hsp := SQ_bf hE hb (k := 2) (by decide) QA_rf
        exact hQ hb _ (XA_XSb (XF_XA fl_XF)) (fun G Qtq hg => toQ fun V' hV' hW' => j_250r hT hE hb (by decide) k1 h12 (q_244s hsp.1 (rv_i (hg _ (stopped hsp)))))
      · have hsp := SQ_bf hE hb (k := 1) (by decide) QA_rf
        exact hQ hb _ (XA_XSb (XF_XA fl_XF)) (fun G Qtq hg => toQ fun V' hV' hW' => j_250w hT hE hb (by decide) k1 (q_244s hsp.1 (rv_i (hg _ (stopped hsp)))))
      have S1 := STA_go h hE1
      have hT1 := S1.1.1.1
      have x70 : nX_ Mx 70 = Mx 70 := nX_ne (by decide)
      have eS1 : ∀ lm sm, PSS (Mx 70) (Mx 73) lm sm (a, lc_ b Mx) = (tS (Mx 70) 259 (a + 1)).bind fun a2 => some (a2, lc_ b Mx) := fun lm sm => by rw [eS, tS_e k1 h12, Option.bind_some]
      refine y_121 hE1 (by decide) (fun hb => by rw [x70]; have := hS hb; rw [eS1] at this; exact bind_n this) (fun k2 h13 hE2 => ?_) (fun hb k2 h13 => ?_) (fun hb k2 => ?_)
      · have S2 := STA_go S1 hE2
        have f2 : NMF b Mx Mq (nX_ (nX_ Mx)) (nx_ (nx_ Mq)) := NMF_tr hV0.2.2.1 (u12 S2 (XSb_tr XSb_nX XSb_nX)) NMF_go NMF_go
        refine hK F (nX_ (nX_ Mx)) (nx_ (nx_ Mq)) (a + 1 + 1) (STA_le S2 (by decide)) (by omega) (PRS_h f2.2.2.2.2.1) (STF_n f2) (fun lm sm _ _ => ?_) (fun G Qtq hg => toQ fun V' hV' hW' => j_250t hT hE (by decide) k1 h12 (j_244t hT1 hE1 (by decide) k2 h13 (rv_i hg)))
        rw [eS1, tS_e (by rw [← x70]; exact k2) h13, Option.bind_some]
        have lce : lc_ b (nX_ (nX_ Mx)) = lc_ b Mx := (LKP_F (b := b) (XF_tr (nX_XF (M := Mx)) nX_XF)).2
        rw [lce]
      · have hsp := SQ_bf hE1 hb (k := 2) (by decide) QA_rf
        exact hQ hb _ (XSb_tr XSb_nX (XA_XSb (XF_XA fl_XF))) (fun G Qtq hg => toQ fun V' hV' hW' => j_250t hT hE (by decide) k1 h12 (j_244r hT1 hE1 hb (by decide) k2 h13 (rv_i (hg _ ⟨hsp.1, hsp.2.1, hsp.2.2.1, hsp.2.2.2.1, QSb_tr (QA_QSb (QF_QA nx_QF)) (QA_QSb hsp.2.2.2.2)⟩))))
      · have hsp := SQ_bf hE1 hb (k := 1) (by decide) QA_rf
        exact hQ hb _ (XSb_tr XSb_nX (XA_XSb (XF_XA fl_XF))) (fun G Qtq hg => toQ fun V' hV' hW' => j_250t hT hE (by decide) k1 h12 (j_244w hT1 hE1 hb (by decide) k2 (rv_i (hg _ ⟨hsp.1, hsp.2.1, hsp.2.2.1, hsp.2.2.2.1, QSb_tr (QA_QSb (QF_QA nx_QF)) (QA_QSb hsp.2.2.2.2)⟩))))
end PU
end T223_ps
section T224_vr
/-! a process's variables and timers: Q's own (255), variable (254), holds (256); X's variableIs (127) -/
def OWM (N : mm_) (t : Int) : Prop := (∃ k, (0 ≤ k ∧ k < N 171 (N 6 61)) ∧ N 177 (8 * N 6 61 + k) = N 151 t ∧ N 181 (8 * N 6 61 + k) < N 150 t) ∨ (∃ k, (0 ≤ k ∧ k < N 173 (N 6 61)) ∧ N 178 (3 * N 6 61 + k) = N 151 t ∧ N 185 (3 * N 6 61 + k) < N 150 t)
def OWI (N : mm_) (t : Int) (N' : mm_) : Prop := N' = N ∨ (N' = nt_ N 3 (N 150 t) ∧ OWM N t)
def OWX (N : mm_) (t : Int) (N' : mm_) : Prop := (N' = N ∧ ¬ OWM N t) ∨ (N' = nt_ N 3 (N 150 t) ∧ OWM N t)
/-- X's new variable -/
def vX_ (M : mm_) (t s z : Int) : mm_ := up_ (up_ (up_ (up_ (up_ (up_ M 60 (8 * M 1 18 + M 124 (M 1 18)) t) 130 (8 * M 1 18 + M 124 (M 1 18)) s) 131 (8 * M 1 18 + M 124 (M 1 18)) z) 132 (8 * M 1 18 + M 124 (M 1 18)) (M 125 (M 1 18))) 125 (M 1 18) (M 125 (M 1 18) + (if 1 < z then z else 1))) 124 (M 1 18) (M 124 (M 1 18) + 1)
/-- Q's, at its name -/
def vN_ (N : mm_) (n t : Int) : mm_ := up_ (up_ (up_ N 177 (8 * N 6 61 + n) (N 151 t)) 181 (8 * N 6 61 + n) (N 150 t)) 171 (N 6 61) (N 171 (N 6 61) + 1)
/-- Q's, at its sort -/
def vH_ (N : mm_) (n s z : Int) : mm_ := up_ (up_ (up_ (up_ N 182 (8 * N 6 61 + n) s) 183 (8 * N 6 61 + n) z) 184 (8 * N 6 61 + n) (N 172 (N 6 61))) 172 (N 6 61) (N 172 (N 6 61) + (if z = 0 then 1 else z))
section VR
variable {d : Nat} {b F : Int} {M N N' : mm_} {t p k s z n x4 : Int} {K : Int → mm_ → Prop} {Kv : mm_ → Prop} {Qt : qt_} {V : vv_}
theorem OWX_I [Inhabited gh_] (h : OWX N t N') : OWI N t N' := by
  rcases h with h | h
  · exact .inl h.1
  · exact .inr h
theorem OWI_r [Inhabited gh_] (h : OWI N t N') {r : Nat} (hr : r ≠ 6) : N' r = N r := by
  rcases h with h | ⟨h, _⟩
  · rw [h]
  · rw [h, ntQ_r hr]
theorem OWI_6 [Inhabited gh_] (h : OWI N t N') {i : Int} (h1 : i ≠ 13) (h2 : i ≠ 14) : N' 6 i = N 6 i := by
  rcases h with h | ⟨h, _⟩
  · rw [h]
  · rw [h, ntQ_6 h1 h2]
theorem OWI_n [Inhabited gh_] (h : OWI N t N') (hm : OWM N t) : OWI N t (nt_ N' 3 (N 150 t)) := by
  rcases h with h | ⟨h, _⟩
  · rw [h]; exact .inr ⟨rfl, hm⟩
  · rw [h, nt_nt]; exact .inr ⟨rfl, hm⟩
/-- so far: no match, or the note -/
def OWJ (N : mm_) (t k m : Int) (N' : mm_) : Prop := (N' = N ∧ (∀ i, 0 ≤ i → i < k → ¬ (N 177 (8 * N 6 61 + i) = N 151 t ∧ N 181 (8 * N 6 61 + i) < N 150 t)) ∧ ∀ i, 0 ≤ i → i < m → ¬ (N 178 (3 * N 6 61 + i) = N 151 t ∧ N 185 (3 * N 6 61 + i) < N 150 t)) ∨ (N' = nt_ N 3 (N 150 t) ∧ OWM N t)
theorem OWJ_I [Inhabited gh_] {m : Int} (h : OWJ N t k m N') : OWI N t N' := by
  rcases h with h | h
  · exact .inl h.1
  · exact .inr h
theorem l_255b [Inhabited gh_] (hV : Cl_ wd0 (Tr_ wd0 pg0 (d + 1)) V (rv_ Kv) Qt m_255) (hW : Wk_ V) (hT : 0 ≤ N 6 61 ∧ N 6 61 < 6) (h3 : N 173 (N 6 61) ≤ 3) (ht : 0 ≤ t ∧ t < 1202) (h1 : OWM N t → Kv (nt_ N 3 (N 150 t))) (h0 : ¬ OWM N t → Kv N) :
    ∀ (n : Nat) (k : Int) (N' : mm_), N 173 (N 6 61) - k ≤ (n : Int) → 0 ≤ k → OWJ N t (N 171 (N 6 61)) k N' → V 81 [rr 6, ii t, ii k] [] N'
  | n, k, N', hn, hk0, hj => by
    have h := OWJ_I hj
    have e61 : N' 6 61 = N 6 61 := OWI_6 h (by decide) (by decide)
    have er : ∀ r : Nat, r ≠ 6 → N' r = N r := fun r hr => OWI_r h hr
    refine b_255_81 (Tr_mono _) hV hW _ _ _ ?_
    rw [e61, er 173 (by decide), er 178 (by decide), er 151 (by decide), er 185 (by decide), er 150 (by decide)]
    refine ⟨hT, ?_⟩
    by_cases c : k < N 173 (N 6 61)
    · rw [if_pos c, w32_id (x := 3 * N 6 61) (by (clear hV hW h3 ht h1 h0 hn hk0 hj h er c; omega)) (by (clear hV hW h3 ht h1 h0 hn hk0 hj h er c; omega)), w32_id (x := 3 * N 6 61 + k) (by (clear hV hW ht h1 h0 hn hj h er; lia)) (by omega), w32_id (x := k + 1) (by omega) (by omega)]
      have rc1 : ∀ N1, OWJ N t (N 171 (N 6 61)) (k + 1) N1 → V 81 [rr 6, ii t, ii (k + 1)] [] N1 := fun N1 g1 => by
        cases n with
        | zero => omega
        | succ m => exact l_255b hV hW hT h3 ht h1 h0 m (k + 1) N1 (by omega) (by omega) g1
      have nx1 : ¬ (N 178 (3 * N 6 61 + k) = N 151 t ∧ N 185 (3 * N 6 61 + k) < N 150 t) → OWJ N t (N 171 (N 6 61)) (k + 1) N' := fun hm => by
        rcases hj with ⟨e, g1, g2⟩ | g
        · refine .inl ⟨e, g1, fun i i0 i1 => ?_⟩
          by_cases ci : i = k
          · rw [ci]; exact hm
          · exact g2 i i0 (by omega)
        · exact .inr g
      refine ⟨by (clear hV hW ht h1 h0 hn hj h er rc1 nx1; lia), ht, ?_⟩
      by_cases c1 : N 178 (3 * N 6 61 + k) = N 151 t
      · rw [if_pos (by rw [if_neg (by omega), if_pos c1])]
        refine ⟨by omega, ht, ?_⟩
        by_cases c2 : N 185 (3 * N 6 61 + k) < N 150 t
        · rw [if_pos c2]
          have hm : OWM N t := .inr ⟨k, ⟨hk0, c⟩, c1, c2⟩
          refine ⟨ht, q_236 (rc1 _ (.inr ⟨?_, hm⟩))⟩
          rcases h with h | ⟨h, _⟩
          · rw [h]
          · rw [h, nt_nt]
        · rw [if_neg c2]; exact rc1 _ (nx1 (fun e => c2 e.2))
      · rw [if_neg (by by_cases c2 : N 178 (3 * N 6 61 + k) < N 151 t
                       · rw [if_pos c2]; decide
                       · rw [if_neg c2, if_neg c1]; decide)]
        exact rc1 _ (nx1 (fun e => c1 e.1))
    · rw [if_neg c]
      rcases hj with ⟨e, g1, g2⟩ | ⟨e, g⟩
      · rw [e]
        refine rv_i (h0 ?_)
        rintro (⟨i, hi, m1, m2⟩ | ⟨i, hi, m1, m2⟩)
        · exact g1 i hi.1 hi.2 ⟨m1, m2⟩
        · exact g2 i hi.1 (by omega) ⟨m1, m2⟩
      · rw [e]; exact rv_i (h1 g)
theorem l_255a [Inhabited gh_] (hV : Cl_ wd0 (Tr_ wd0 pg0 (d + 1)) V (rv_ Kv) Qt m_255) (hW : Wk_ V) (hT : 0 ≤ N 6 61 ∧ N 6 61 < 6) (h8 : 0 ≤ N 171 (N 6 61) ∧ N 171 (N 6 61) ≤ 8) (h3 : N 173 (N 6 61) ≤ 3) (ht : 0 ≤ t ∧ t < 1202) (h1 : OWM N t → Kv (nt_ N 3 (N 150 t))) (h0 : ¬ OWM N t → Kv N) :
    ∀ (n : Nat) (k : Int) (N' : mm_), N 171 (N 6 61) - k ≤ (n : Int) → 0 ≤ k → k ≤ N 171 (N 6 61) → OWJ N t k 0 N' → V 2 [rr 6, ii t, ii k] [] N'
  | n, k, N', hn, hk0, hk1, hj => by
    have h := OWJ_I hj
    have e61 : N' 6 61 = N 6 61 := OWI_6 h (by decide) (by decide)
    have er : ∀ r : Nat, r ≠ 6 → N' r = N r := fun r hr => OWI_r h hr
    refine b_255_2 (Tr_mono _) hV hW _ _ _ ?_
    rw [e61, er 171 (by decide), er 177 (by decide), er 151 (by decide), er 181 (by decide), er 150 (by decide)]
    refine ⟨hT, ?_⟩
    by_cases c : k < N 171 (N 6 61)
    · rw [if_pos c, w32_id (x := 8 * N 6 61) (by (clear hV hW h8 h3 ht h1 h0 hn hk0 hk1 hj h er c; lia)) (by (clear hV hW h8 h3 ht h1 h0 hn hk0 hk1 hj h er c; lia)), w32_id (x := 8 * N 6 61 + k) (by (clear hV hW h3 ht h1 h0 hn hk1 hj h er; lia)) (by (clear hV hW h3 ht h1 h0 hn hk1 hj h er; omega)), w32_id (x := k + 1) (by omega) (by omega)]
      have rc1 : ∀ N1, OWJ N t (k + 1) 0 N1 → V 2 [rr 6, ii t, ii (k + 1)] [] N1 := fun N1 g1 => by
        cases n with
        | zero => omega
        | succ m => exact l_255a hV hW hT h8 h3 ht h1 h0 m (k + 1) N1 (by omega) (by omega) (by omega) g1
      have nx1 : ¬ (N 177 (8 * N 6 61 + k) = N 151 t ∧ N 181 (8 * N 6 61 + k) < N 150 t) → OWJ N t (k + 1) 0 N' := fun hm => by
        rcases hj with ⟨e, g1, g2⟩ | g
        · refine .inl ⟨e, fun i i0 i1 => ?_, g2⟩
          by_cases ci : i = k
          · rw [ci]; exact hm
          · exact g1 i i0 (by omega)
        · exact .inr g
      refine ⟨by (clear hV hW h3 ht h1 h0 hn hk1 hj h er rc1 nx1; lia), ht, ?_⟩
      by_cases c1 : N 177 (8 * N 6 61 + k) = N 151 t
      · rw [if_pos (by rw [if_neg (by (clear hV hW hT h8 h3 ht h1 h0 hn hk0 hk1 hj h e61 er c rc1 nx1; omega)), if_pos c1])]
        refine ⟨by omega, ht, ?_⟩
        by_cases c2 : N 181 (8 * N 6 61 + k) < N 150 t
        · rw [if_pos c2]
          have hm : OWM N t := .inl ⟨k, ⟨hk0, c⟩, c1, c2⟩
          refine ⟨ht, q_236 (rc1 _ (.inr ⟨?_, hm⟩))⟩
          rcases h with h | ⟨h, _⟩
          · rw [h]
          · rw [h, nt_nt]
        · rw [if_neg c2]; exact rc1 _ (nx1 (fun e => c2 e.2))
      · rw [if_neg (by by_cases c2 : N 177 (8 * N 6 61 + k) < N 151 t
                       · rw [if_pos c2]; decide
                       · rw [if_neg c2, if_neg c1]; decide)]
        exact rc1 _ (nx1 (fun e => c1 e.1))
    · rw [if_neg c]
      rw [show k = N 171 (N 6 61) by omega] at hj
      exact l_255b hV hW hT h3 ht h1 h0 (N 173 (N 6 61)).toNat 0 N' (by (clear hV hW hT h8 h3 ht h1 h0 hn hk0 hk1 hj h e61 er c; omega)) (by omega) hj
theorem q_255 [Inhabited gh_] (hT : 0 ≤ N 6 61 ∧ N 6 61 < 6) (h8 : 0 ≤ N 171 (N 6 61) ∧ N 171 (N 6 61) ≤ 8) (h3 : N 173 (N 6 61) ≤ 3) (ht : 0 ≤ t ∧ t < 1202) : ∃ N', OWX N t N' ∧ ∀ (d : Nat) (Kv : mm_ → Prop) (Qt : qt_), Kv N' → Tr_ wd0 pg0 (d + 2) 255 [.inr (.inr 6), .inl t] N (rv_ Kv) Qt := by
  rcases Classical.em (OWM N t) with m | m
  · exact ⟨nt_ N 3 (N 150 t), .inr ⟨rfl, m⟩, fun d Kv Qt hk => t_255 fun V hV hW => b_255_0 (Tr_mono _) hV hW _ _ (l_255a hV hW hT h8 h3 ht (fun _ => hk) (fun e => absurd m e) (N 171 (N 6 61)).toNat 0 N (by (clear hT h3 ht m hk hV hW; omega)) (by omega) (by (clear hT h3 ht m hk hV hW; lia)) (.inl ⟨rfl, fun i a b => by (clear hT h8 h3 ht m hk hV hW; omega), fun i a b => by omega⟩))⟩
  · exact ⟨N, .inl ⟨rfl, m⟩, fun d Kv Qt hk => t_255 fun V hV hW => b_255_0 (Tr_mono _) hV hW _ _ (l_255a hV hW hT h8 h3 ht (fun e => absurd e m) (fun _ => hk) (N 171 (N 6 61)).toNat 0 N (by omega) (by omega) (by omega) (.inl ⟨rfl, fun i a b => by omega, fun i a b => by omega⟩))⟩
/-- Q's variable: pass 1 -/
theorem q_254n [Inhabited gh_] (hg : go_ N) (h16 : N 6 16 = 0) (hT : 0 ≤ N 6 61 ∧ N 6 61 < 6) (hn : 0 ≤ n ∧ n < 8) (h171 : 0 ≤ N 171 (N 6 61) ∧ N 171 (N 6 61) < 100) (ht : 0 ≤ t ∧ t < 1202) (hK : Kv (vN_ N n t)) : Tr_ wd0 pg0 (d + 3) 254 [.inr (.inr 6), .inl n, .inl t] N (rv_ Kv) Qt := by
  refine t_254 fun V hV hW => b_254_0 (Tr_mono _) hV hW _ _ _ (q_227g hg ?_)
  rw [if_pos rfl]
  intro _
  rw [if_pos h16, if_neg (by omega)]
  refine b_254_33 (Tr_mono _) hV hW _ _ _ ?_
  intro _
  rw [if_pos h16, w32_id (x := 8 * N 6 61) (by omega) (by omega), w32_id (x := 8 * N 6 61 + n) (by omega) (by omega), w32_id (x := N 171 (N 6 61) + 1) (by omega) (by omega)]
  exact ⟨ht, by omega, ht, by omega, hT, hT, rv_i hK⟩
theorem q_254r [Inhabited gh_] (hg : go_ N) (h16 : N 6 16 = 0) (h13 : N 6 13 = 0) (hn : n = 8) (ht : 0 ≤ t ∧ t < 1202) (hK : Kv (bf_ N 2 (N 150 t))) : Tr_ wd0 pg0 (d + 3) 254 [.inr (.inr 6), .inl n, .inl t] N (rv_ Kv) Qt := by
  refine t_254 fun V hV hW => b_254_0 (Tr_mono _) hV hW _ _ _ (q_227g hg ?_)
  rw [if_pos rfl]
  intro _
  rw [if_pos h16, if_pos hn]
  exact ⟨ht, q_231o h13 (rv_i hK)⟩
/-- pass 2 -/
theorem q_254j [Inhabited gh_] (hg : go_ N) (h16 : N 6 16 = 1) (hT : 0 ≤ N 6 61 ∧ N 6 61 < 6) (h8 : 0 ≤ N 171 (N 6 61) ∧ N 171 (N 6 61) ≤ 8) (h3 : N 173 (N 6 61) ≤ 3) (ht : 0 ≤ t ∧ t < 1202) : ∃ N', OWX N t N' ∧ ∀ (d : Nat) (n : Int) (Kv : mm_ → Prop) (Qt : qt_), Kv N' → Tr_ wd0 pg0 (d + 3) 254 [.inr (.inr 6), .inl n, .inl t] N (rv_ Kv) Qt := by
  obtain ⟨N', ho, hq⟩ := q_255 hT h8 h3 ht
  refine ⟨N', ho, fun d n Kv Qt hk => ?_⟩
  refine t_254 fun V hV hW => b_254_0 (Tr_mono _) hV hW _ _ _ (q_227g hg ?_)
  rw [if_pos rfl]
  intro _
  rw [if_neg (by (clear hg hT h8 h3 ht ho hq hk hV hW; lia))]
  refine b_254_33 (Tr_mono _) hV hW _ _ _ ?_
  intro _
  rw [if_neg (by omega)]
  exact hq d _ _ (rv_i hk)
theorem q_254s [Inhabited gh_] (hs : sp_ N) (hK : Kv N) : Tr_ wd0 pg0 (d + 3) 254 [.inr (.inr 6), .inl n, .inl t] N (rv_ Kv) Qt := t_254 fun V hV hW => b_254_0 (Tr_mono _) hV hW _ _ _ (q_227s hs (by rw [if_neg (by decide)]; exact rv_i hK))
theorem q_256 [Inhabited gh_] (hT : 0 ≤ N 6 61 ∧ N 6 61 < 6) (hn : 0 ≤ n ∧ n < 8) (hz : 0 ≤ z ∧ z ≤ 8) (h172 : 0 ≤ N 172 (N 6 61) ∧ N 172 (N 6 61) ≤ 100) (h13 : N 6 13 = 0) (hg : N 172 (N 6 61) + (if z = 0 then 1 else z) ≤ 16 → Kv (vH_ N n s z)) (hr : 16 < N 172 (N 6 61) + (if z = 0 then 1 else z) → Kv (bf_ (vH_ N n s z) 2 x4)) : Tr_ wd0 pg0 (d + 2) 256 [.inr (.inr 6), .inl n, .inl s, .inl z, .inl x4] N (rv_ Kv) Qt := by
  refine t_256 fun V hV hW => b_256_0 (Tr_mono _) hV hW _ _ _ _ _ ?_
  rw [w32_id (x := 8 * N 6 61) (by omega) (by omega), w32_id (x := 8 * N 6 61 + n) (by omega) (by omega)]
  refine ⟨by omega, by omega, hT, by omega, hT, ?_⟩
  unfold vH_ at hg hr
  by_cases c : z = 0
  · rw [if_pos c] at hg hr ⊢
    rw [w32_id (x := N 172 (N 6 61) + 1) (by omega) (by omega), up_at]
    refine ⟨hT, hT, ?_⟩
    by_cases c1 : N 172 (N 6 61) + 1 ≤ 16
    · rw [if_pos c1]; exact rv_i (hg c1)
    · rw [if_neg c1]
      refine q_231o ?_ (rv_i (hr (by omega)))
      rw [up_ne (by decide), up_ne (by decide), up_ne (by decide), up_ne (by decide)]; exact h13
  · rw [if_neg c] at hg hr ⊢
    rw [w32_id (x := N 172 (N 6 61) + z) (by omega) (by (clear hT hn h13 hg hr hV hW c; omega)), up_at]
    refine ⟨hT, hT, ?_⟩
    by_cases c1 : N 172 (N 6 61) + z ≤ 16
    · rw [if_pos c1]; exact rv_i (hg c1)
    · rw [if_neg c1]
      refine q_231o ?_ (rv_i (hr (by omega)))
      rw [up_ne (by decide), up_ne (by decide), up_ne (by decide), up_ne (by decide)]; exact h13
end VR
end T224_vr
section T225_vr
/-! a process's variables: X's variableIs, pass 1 -/
def nd_ (M N : mm_) (t : Int) : mm_ := if vrr N (N 151 t) = -1 ∧ tmr N (N 151 t) = -1 then M else nt1_ M 3 t
section VS
variable {d : Nat} {b F : Int} {M N N0 N' : mm_} {t p k s z n l : Int} {K : Int → mm_ → Prop} {Kv : mm_ → Prop} {Qt : qt_} {V : vv_}
theorem x_127 [Inhabited gh_] (h8 : M 1 8 = 0) (hT : Tks M N) (hV : VT M N) (ht : nm9_ M t) (h124 : M 124 (M 1 18) < 8) (h125 : 0 ≤ M 125 (M 1 18) ∧ M 125 (M 1 18) ≤ 16) (hz : 0 ≤ z ∧ z ≤ 8) (hl : 0 ≤ l ∧ l < 1202) (h7 : 0 ≤ M 1 7 ∧ M 1 7 < 2147483647)
    (hK : M 125 (M 1 18) + (if 1 < z then z else 1) ≤ 16 → Kv (vX_ (nd_ M N t) t s z)) (hr : 16 < M 125 (M 1 18) + (if 1 < z then z else 1) → Qt 8 (flX_ M 2 l)) : Tr_ wd0 pg0 (d + 4) 127 [.inr (.inr 1), .inl t, .inl s, .inl z, .inl l] M (rv_ Kv) Qt := by
  have v18 := hV.2.2
  have v24 := hV.2.2.2.2.1
  have tu : t ≤ 1200 := ht.1.2.1
  refine t_127 fun V hV' hW => b_127_0 (Tr_mono _) hV' hW _ _ _ _ _ ?_
  intro _
  rw [if_pos h8, if_neg (by (clear h8 hT hV ht h125 hz hl h7 hK hr v24 tu hV' hW; omega))]
  refine ⟨hV.1, by omega, x_110 ht.1.1 (by (clear h8 hT hV ht h124 h125 hz hl h7 hK hr v18 v24 hV' hW; omega)) (fun _ => ?_) (fun e => absurd rfl e)⟩
  refine b_127_39 (Tr_mono _) hV' hW _ _ _ _ _ _ ⟨hV.1, by omega, ?_⟩
  have wi : w32 (M 125 (M 1 18) + (if 1 < z then z else 1)) = M 125 (M 1 18) + (if 1 < z then z else 1) := by split <;> exact w32_id (by omega) (by omega)
  rw [wi]
  by_cases c : M 125 (M 1 18) + (if 1 < z then z else 1) ≤ 16
  · rw [if_pos c]
    have hK := hK c
    refine x_110 hl.1 hl.2 (fun _ => ?_) (fun e => absurd rfl e)
    have fin : ∀ M1 : mm_, (∀ r : Nat, r ≠ 1 → M1 r = M r) → M1 1 2 = 5 → M1 1 18 = M 1 18 → Kv (vX_ M1 t s z) → V 97 [rr 1, ii t, ii s, ii z, ii l, ii (M 124 (M 1 18))] [] M1 := fun M1 hr h2 h18 hk => by
      refine b_127_97 (Tr_mono _) hV' hW _ _ _ _ _ _ ?_
      rw [h18, w32_id (x := 8 * M 1 18) (by (clear h8 hT hV ht h124 h125 hz hl h7 v24 tu hV' hW wi c hK hr h2 hk; omega)) (by (clear h8 hT hV ht h124 h125 hz hl h7 v24 tu hV' hW wi c hK hr h2 hk; omega)), w32_id (x := 8 * M 1 18 + M 124 (M 1 18)) (by (clear h8 hT hV ht h125 hz hl h7 v24 tu hV' hW wi c hK hr h2 hk; omega)) (by (clear h8 hT hV ht h125 hz hl h7 v24 tu hV' hW wi c hK hr h2 hk; omega))]
      have e124 : M1 124 = M 124 := hr 124 (by decide)
      have e125 : M1 125 = M 125 := hr 125 (by decide)
      unfold vX_ at hk
      rw [h18, e124, e125] at hk
      rw [e124, e125, wi, w32_id (x := M 124 (M 1 18) + 1) (by omega) (by omega)]
      exact ⟨by (clear h8 hT hV ht h125 hz hl h7 v24 tu hV' hW wi c hK hr h2 hk e124 e125; omega), h2, by omega, h2, by omega, h2, h2, by (clear h8 hT hV ht h124 h125 hz hl h7 v24 tu hV' hW wi c hK hr h2 hk e124 e125; omega), by omega, h2, by omega, by omega, h2, by omega, by omega, rv_i hk⟩
    unfold nd_ at hK
    refine x_128R hT hV ht ?_
    by_cases c1 : vrr N (N 151 t) = -1
    · rw [if_pos c1]
      refine x_129R hT hV ht ?_
      by_cases c2 : tmr N (N 151 t) = -1
      · rw [if_pos c2]
        rw [if_pos ⟨c1, c2⟩] at hK
        exact fin M (fun _ _ => rfl) hV.1 rfl hK
      · rw [if_neg c2]
        rw [if_neg (fun e => c2 e.2)] at hK
        exact x_116 ht.1.1 (by omega) h7.1 h7.2 (fin _ (fun r h => nt1_r h) (by rw [nt1_1 (by decide) (by decide) (by decide)]; exact hV.1) (nt1_1 (by decide) (by decide) (by decide)) hK)
    · rw [if_neg c1]
      rw [if_neg (fun e => c1 e.1)] at hK
      exact x_116 ht.1.1 (by omega) h7.1 h7.2 (fin _ (fun r h => nt1_r h) (by rw [nt1_1 (by decide) (by decide) (by decide)]; exact hV.1) (nt1_1 (by decide) (by decide) (by decide)) hK)
  · rw [if_neg c]
    exact x_110 hl.1 hl.2 (fun e => absurd e (by decide)) (fun _ => hr (by (clear h8 hT hV ht h124 h125 hz hl h7 hK hr v18 v24 tu hV' hW; omega)))
theorem x_127j [Inhabited gh_] (h8 : M 1 8 = 1) (hK : Kv M) : Tr_ wd0 pg0 (d + 4) 127 [.inr (.inr 1), .inl t, .inl s, .inl z, .inl l] M (rv_ Kv) Qt := t_127 fun V hV' hW => b_127_0 (Tr_mono _) hV' hW _ _ _ _ _ (fun _ => by rw [if_neg (by omega)]; exact rv_i hK)
end VS
end T225_vr
section T226_vr
/-! a process's variables: the relation, a variable more (pass 1) -/
def DCL (M : mm_) (T u : Int) : Prop := (∃ k, (0 ≤ k ∧ k < M 124 T) ∧ M 60 (8 * T + k) = u) ∨ (∃ k, (0 ≤ k ∧ k < M 126 T) ∧ M 61 (3 * T + k) = u)
/-- cells of variables behind scalars only -/
def SCC (M : mm_) (T : Int) : Prop := ∀ k, 0 ≤ k → k ≤ M 124 T → (∀ i, 0 ≤ i → i < k → M 131 (8 * T + i) = 0) → (if k = M 124 T then M 125 T else M 132 (8 * T + k)) = k
/-- cells of variables lie apart -/
def SCD (M : mm_) (T : Int) : Prop := ∀ i k, 0 ≤ i → i < k → k < M 124 T → M 132 (8 * T + i) + (if 1 < M 131 (8 * T + i) then M 131 (8 * T + i) else 1) ≤ M 132 (8 * T + k)
def TBL (F : Int) (M N : mm_) (T : Int) : Prop := (N 172 T = M 125 T ∧ 0 ≤ M 125 T ∧ M 125 T ≤ 16 ∧ SCC M T ∧ SCD M T)
  ∧ (∀ k, 0 ≤ k → k < M 124 T → (0 ≤ M 132 (8 * T + k) ∧ M 132 (8 * T + k) + (if 1 < M 131 (8 * T + k) then M 131 (8 * T + k) else 1) ≤ M 125 T ∧ M 131 (8 * T + k) ≤ 8) ∧ N 181 (8 * T + k) = M 71 (M 60 (8 * T + k)))
  ∧ (∀ k, 0 ≤ k → k < M 126 T → N 185 (3 * T + k) = M 71 (M 61 (3 * T + k))) ∧ (∀ u v, DCL M T u → DCL M T v → N 151 u = N 151 v → u < v → F ≤ 8 * M 71 v + 3)
/-- X's fault key comes from a name of this type told twice, or stands from before -/
def HDG [Inhabited gh_] (b F : Int) (M N : mm_) (T : Int) : Prop := ff_ = 0 ∧ (b = 0 → hh_ = 0 ∨ F = hh_ ∨ ∃ u v, (DCL M T u ∧ DCL M T v ∧ u < v) ∧ N 151 u = N 151 v ∧ F = 8 * M 71 v + 3)
def HDR [Inhabited gh_] (b F : Int) (M N : mm_) (a : Int) : Prop := STA b F M N a 0 ∧ TBL F M N (M 1 18) ∧ (b = 0 → ∀ u, DCL M (M 1 18) u → u < a) ∧ HDG b F M N (M 1 18)
section VT2
variable {b F F' : Int} {M N M1 N1 : mm_} {a a' T t s z : Int}
theorem Tks_r [Inhabited gh_] (h : Tks M N) (hx : ∀ r : Nat, r ∈ [69, 70, 71, 72, 73] → M1 r = M r) (hq : ∀ r : Nat, r ∈ [149, 150, 151] → N1 r = N r) : Tks M1 N1 := by
  unfold Tks gd_ lk9_ at *
  rw [hx 69 (by decide), hx 70 (by decide), hx 71 (by decide), hx 72 (by decide), hx 73 (by decide), hq 149 (by decide), hq 150 (by decide), hq 151 (by decide)]
  exact h
theorem nm9_r [Inhabited gh_] (h : nm9_ M a) (hx : M1 70 = M 70) : nm9_ M1 a := ⟨gd_c hx h.1, by rw [hx]; exact h.2⟩
/-- TS, from its pieces -/
theorem TS_mk [Inhabited gh_] (h : TS b F M N a) (hT : Tks M1 N1) (hV : VT M1 N1) (hE : ER b F' M1 N1 a 0) (hG : GT b F' M1 N1 (M1 71 a)) (hL : LBT b F' M1 N1 a) (h9 : stt9 M1 N1) (h1 : ∀ i : Int, i = 19 ∨ i = 21 ∨ i = 23 ∨ i = 29 → M1 1 i = M 1 i) (h7 : M1 1 7 + 8 * (1201 - a) ≤ 1000000000 - (gg_ : Int)) (h5 : M1 5 3 = M 5 3) (h6 : ∀ i : Int, i = 75 ∨ i = 76 ∨ i = 90 ∨ i = 104 → N1 6 i = N 6 i) : TS b F' M1 N1 a := by
  obtain ⟨⟨t1, t2, t3, t4, t5, t6⟩, g, l, s, ⟨u1, u2⟩, w, r, ⟨k1, k2⟩, n1, n2⟩ := h
  exact ⟨⟨hT, hV, hE, by rw [h6 75 (by omega)]; exact t4, by rw [h6 104 (by omega)]; exact t5, by rw [h5]; exact t6⟩, hG, hL, h9, ⟨by rw [h1 29 (by omega)]; exact u1, by rw [h6 76 (by omega)]; exact u2⟩, h7, by rw [h6 90 (by omega)]; exact r, ⟨by rw [h1 21 (by omega)]; exact k1, by rw [h1 23 (by omega)]; exact k2⟩, by rw [h1 19 (by omega)]; exact n1, by rw [h5]; exact n2⟩
theorem DCL_c [Inhabited gh_] (h124 : M1 124 = M 124) (h60 : M1 60 = M 60) (h126 : M1 126 = M 126) (h61 : M1 61 = M 61) : DCL M1 T t ↔ DCL M T t := by unfold DCL; rw [h124, h60, h126, h61]
theorem TBL_c [Inhabited gh_] (h : TBL F M N T) (hx : ∀ r : Nat, r ∈ [60, 61, 71, 124, 125, 126, 131, 132] → M1 r = M r) (hq : ∀ r : Nat, r ∈ [151, 172, 181, 185] → N1 r = N r) : TBL F M1 N1 T := by
  unfold TBL DCL SCC SCD at *
  rw [hx 60 (by decide), hx 61 (by decide), hx 71 (by decide), hx 124 (by decide), hx 125 (by decide), hx 126 (by decide), hx 131 (by decide), hx 132 (by decide), hq 151 (by decide), hq 172 (by decide), hq 181 (by decide), hq 185 (by decide)]
  exact h
theorem HDG_c [Inhabited gh_] (h : HDG b F M N T) (hx : ∀ r : Nat, r ∈ [60, 61, 71, 124, 126] → M1 r = M r) (hq : N1 151 = N 151) : HDG b F M1 N1 T := by
  unfold HDG DCL at *
  rw [hx 60 (by decide), hx 61 (by decide), hx 71 (by decide), hx 124 (by decide), hx 126 (by decide), hq]
  exact h
theorem HDR_go [Inhabited gh_] (h : HDR b F M N a) (hE : ER b F (nX_ M) (nx_ N) (a + 1) 0) : HDR b F (nX_ M) (nx_ N) (a + 1) := by
  obtain ⟨h1, h2, h3, h4⟩ := h
  have e : ∀ r : Nat, r ≠ 1 → nX_ M r = M r := fun r h => nX_ne h
  refine ⟨STA_le (STA_go h1 hE) (by decide), ?_, fun hb u hu => ?_, by rw [nX_1 (by decide)]; exact HDG_c h4 (fun r hr => e r (fun c => by rw [c] at hr; revert hr; decide)) (nx_ne (by decide))⟩
  · rw [nX_1 (by decide)]
    exact TBL_c h2 (fun r hr => e r (fun c => by rw [c] at hr; revert hr; decide)) (fun r hr => nx_ne (fun c => by rw [c] at hr; revert hr; decide))
  · rw [nX_1 (by decide), DCL_c (e _ (by decide)) (e _ (by decide)) (e _ (by decide)) (e _ (by decide))] at hu
    have := h3 hb u hu; omega
theorem vX_r [Inhabited gh_] {r : Nat} (h : r ∉ [60, 124, 125, 130, 131, 132]) : vX_ M t s z r = M r := by
  unfold vX_
  rw [up_ne (fun e => h (by rw [e]; decide)), up_ne (fun e => h (by rw [e]; decide)), up_ne (fun e => h (by rw [e]; decide)), up_ne (fun e => h (by rw [e]; decide)), up_ne (fun e => h (by rw [e]; decide)), up_ne (fun e => h (by rw [e]; decide))]
def vA_ (N : mm_) (n t s z : Int) : mm_ := vH_ (vN_ N n t) n s z
theorem vA_r [Inhabited gh_] {r : Nat} {n : Int} (h : r ∉ [171, 172, 177, 181, 182, 183, 184]) : vA_ N n t s z r = N r := by
  unfold vA_ vH_ vN_
  rw [up_ne (fun e => h (by rw [e]; decide)), up_ne (fun e => h (by rw [e]; decide)), up_ne (fun e => h (by rw [e]; decide)), up_ne (fun e => h (by rw [e]; decide)), up_ne (fun e => h (by rw [e]; decide)), up_ne (fun e => h (by rw [e]; decide)), up_ne (fun e => h (by rw [e]; decide))]
theorem nd_r [Inhabited gh_] {r : Nat} (h : r ≠ 1) : nd_ M N t r = M r := by
  unfold nd_; split
  · rfl
  · exact nt1_r h
theorem nd_1 [Inhabited gh_] {i : Int} (h4 : i ≠ 4) (h5 : i ≠ 5) (h7 : i ≠ 7) : nd_ M N t 1 i = M 1 i := by
  unfold nd_; split
  · rfl
  · exact nt1_1 h4 h5 h7
theorem nd_7 [Inhabited gh_] : M 1 7 ≤ nd_ M N t 1 7 ∧ nd_ M N t 1 7 ≤ M 1 7 + 1 := by
  unfold nd_; split
  · omega
  · rw [nt1_7]; omega
/-- the fault key of pass 1, with a note TWICE at t if the name is told -/
def Fd_ (F : Int) (M N : mm_) (t : Int) : Int := if vrr N (N 151 t) = -1 ∧ tmr N (N 151 t) = -1 then F else min F (8 * M 71 t + 3)
theorem Fd_le [Inhabited gh_] : Fd_ F M N t ≤ F := by unfold Fd_; split <;> omega
theorem ER_nd [Inhabited gh_] (hE : ER b F M N a 0) (hb : b = 0) (hp : 0 ≤ M 71 t ∧ M 71 t ≤ 5000) (hf : M 1 7 + 1 + 8 * (1201 - a) ≤ 1000001000 - (gg_ : Int)) : ER b (Fd_ F M N t) (nd_ M N t) N a 0 := by
  unfold Fd_ nd_; split
  · exact hE
  · exact ER_n1 hE hb (by decide) hp hf
/-- who tells a name of this type already -/
theorem DCL_told [Inhabited gh_] (hV : VT M N) {u : Int} (hu : DCL M (M 1 18) u) (he : N 151 u = N 151 t) : ¬ (vrr N (N 151 t) = -1 ∧ tmr N (N 151 t) = -1) := by
  rintro ⟨e1, e2⟩
  have v := hV.2
  rcases hu with ⟨k, hk, e⟩ | ⟨k, hk, e⟩
  · have r := v.2.2.2.2.2.1 k hk.1 hk.2
    unfold vrr at e1
    have := fi_no _ _ _ _ e1 (Int.le_refl _) k hk.1 (by rw [v.1, v.2.2.2.1.2.2]; (clear hV he e1 e2 e r; omega))
    apply this
    show N 177 (8 * N 6 61 + k) = N 151 t
    rw [v.1, r.2.1, e, he]
  · have r := v.2.2.2.2.2.2 k hk.1 hk.2
    unfold tmr at e2
    have := fi_no _ _ _ _ e2 (Int.le_refl _) k hk.1 (by rw [v.1, v.2.2.2.2.1.2.2]; (clear hV he e1 e2 e r; omega))
    apply this
    show N 178 (3 * N 6 61 + k) = N 151 t
    rw [v.1, r.2, e, he]
theorem told_DCL [Inhabited gh_] (hV : VT M N) (h : ¬ (vrr N (N 151 t) = -1 ∧ tmr N (N 151 t) = -1)) : ∃ u, DCL M (M 1 18) u ∧ N 151 u = N 151 t := by
  have v := hV.2
  by_cases c : vrr N (N 151 t) = -1
  · have c2 : tmr N (N 151 t) ≠ -1 := fun e => h ⟨c, e⟩
    unfold tmr at c2
    rcases fi_r (fun i => N 178 (3 * N 6 61 + i)) (N 151 t) (N 173 (N 6 61)).toNat 0 with z | ⟨z1, z2, z3⟩
    · exact absurd z c2
    · generalize fi_ (fun i => N 178 (3 * N 6 61 + i)) (N 151 t) (N 173 (N 6 61)).toNat 0 = k at *
      have hk : k < M 126 (M 1 18) := by rw [v.1, v.2.2.2.2.1.2.2] at z2; have := v.2.2.2.2.1.1; omega
      have r := v.2.2.2.2.2.2 k z1 hk
      have z4 : N 178 (3 * N 6 61 + k) = N 151 t := z3
      rw [v.1, r.2] at z4
      exact ⟨_, .inr ⟨k, ⟨z1, hk⟩, rfl⟩, z4⟩
  · unfold vrr at c
    rcases fi_r (fun i => N 177 (8 * N 6 61 + i)) (N 151 t) (N 171 (N 6 61)).toNat 0 with z | ⟨z1, z2, z3⟩
    · exact absurd z c
    · generalize fi_ (fun i => N 177 (8 * N 6 61 + i)) (N 151 t) (N 171 (N 6 61)).toNat 0 = k at *
      have hk : k < M 124 (M 1 18) := by rw [v.1, v.2.2.2.1.2.2] at z2; have := v.2.2.2.1.1; omega
      have r := v.2.2.2.2.2.1 k z1 hk
      have z4 : N 177 (8 * N 6 61 + k) = N 151 t := z3
      rw [v.1, r.2.1] at z4
      exact ⟨_, .inl ⟨k, ⟨z1, hk⟩, rfl⟩, z4⟩
/-- a name more -/
theorem HDG_d [Inhabited gh_] (h : HDG b F M N (M 1 18)) (hV : VT M N) (dcl : ∀ u, DCL M1 (M 1 18) u ↔ DCL M (M 1 18) u ∨ u = t) (h71 : M1 71 = M 71) (h151 : N1 151 = N 151) (hlt : ∀ u, DCL M (M 1 18) u → u < t) : HDG b (Fd_ F M N t) M1 N1 (M 1 18) := by
  refine ⟨h.1, fun hb => ?_⟩
  have old : Fd_ F M N t = F → hh_ = 0 ∨ Fd_ F M N t = hh_ ∨ ∃ u v, (DCL M1 (M 1 18) u ∧ DCL M1 (M 1 18) v ∧ u < v) ∧ N1 151 u = N1 151 v ∧ Fd_ F M N t = 8 * M1 71 v + 3 := fun e => by
    rcases h.2 hb with z | z | ⟨u, v, z1, z2, z3⟩
    · exact .inl z
    · exact .inr (.inl (by rw [e]; exact z))
    · exact .inr (.inr ⟨u, v, ⟨(dcl u).mpr (.inl z1.1), (dcl v).mpr (.inl z1.2.1), z1.2.2⟩, by rw [h151]; exact z2, by rw [e, h71]; exact z3⟩)
  by_cases c : vrr N (N 151 t) = -1 ∧ tmr N (N 151 t) = -1
  · exact old (by unfold Fd_; rw [if_pos c])
  · by_cases c2 : F ≤ 8 * M 71 t + 3
    · exact old (by unfold Fd_; rw [if_neg c]; (clear h hV dcl h71 h151 hlt hb old c; lia))
    · obtain ⟨u, hu, he⟩ := told_DCL hV c
      exact .inr (.inr ⟨u, t, ⟨(dcl u).mpr (.inl hu), (dcl t).mpr (.inr rfl), hlt u hu⟩, by rw [h151]; exact he, by unfold Fd_; rw [if_neg c, h71]; omega⟩)
end VT2
end T226_vr
section T227_vr
/-! a process's variables: a variable more (pass 1) -/
section VU
variable {b F F' : Int} {M N M1 N1 : mm_} {a a' T t s z : Int}
theorem vX_k [Inhabited gh_] : vX_ M t s z 60 (8 * M 1 18 + M 124 (M 1 18)) = t ∧ vX_ M t s z 130 (8 * M 1 18 + M 124 (M 1 18)) = s ∧ vX_ M t s z 131 (8 * M 1 18 + M 124 (M 1 18)) = z ∧ vX_ M t s z 132 (8 * M 1 18 + M 124 (M 1 18)) = M 125 (M 1 18) ∧ vX_ M t s z 125 (M 1 18) = M 125 (M 1 18) + (if 1 < z then z else 1) ∧ vX_ M t s z 124 (M 1 18) = M 124 (M 1 18) + 1 := by
  unfold vX_
  refine ⟨?_, ?_, ?_, ?_, ?_, up_at⟩
  · rw [up_ne (by decide), up_ne (by decide), up_ne (by decide), up_ne (by decide), up_ne (by decide), up_at]
  · rw [up_ne (by decide), up_ne (by decide), up_ne (by decide), up_ne (by decide), up_at]
  · rw [up_ne (by decide), up_ne (by decide), up_ne (by decide), up_at]
  · rw [up_ne (by decide), up_ne (by decide), up_at]
  · rw [up_ne (by decide), up_at]
theorem vX_o [Inhabited gh_] {r : Nat} {i : Int} (hr : r ∈ [60, 130, 131, 132]) (h : i ≠ 8 * M 1 18 + M 124 (M 1 18)) : vX_ M t s z r i = M r i := by
  unfold vX_
  rw [up_ne (fun e => by rw [e] at hr; revert hr; decide), up_ne (fun e => by rw [e] at hr; revert hr; decide), up_of2 h, up_of2 h, up_of2 h, up_of2 h]
theorem vX_t [Inhabited gh_] {r : Nat} {i : Int} (hr : r ∈ [124, 125]) (h : i ≠ M 1 18) : vX_ M t s z r i = M r i := by
  unfold vX_
  rw [up_of2 h, up_of2 h, up_ne (fun e => by rw [e] at hr; revert hr; decide), up_ne (fun e => by rw [e] at hr; revert hr; decide), up_ne (fun e => by rw [e] at hr; revert hr; decide), up_ne (fun e => by rw [e] at hr; revert hr; decide)]
theorem vA_k [Inhabited gh_] {n : Int} : vA_ N n t s z 177 (8 * N 6 61 + n) = N 151 t ∧ vA_ N n t s z 181 (8 * N 6 61 + n) = N 150 t ∧ vA_ N n t s z 171 (N 6 61) = N 171 (N 6 61) + 1 ∧ vA_ N n t s z 182 (8 * N 6 61 + n) = s ∧ vA_ N n t s z 183 (8 * N 6 61 + n) = z ∧ vA_ N n t s z 184 (8 * N 6 61 + n) = N 172 (N 6 61) ∧ vA_ N n t s z 172 (N 6 61) = N 172 (N 6 61) + (if z = 0 then 1 else z) := by
  have e6 : vN_ N n t 6 = N 6 := by unfold vN_; rw [up_ne (by decide), up_ne (by decide), up_ne (by decide)]
  have e172 : vN_ N n t 172 = N 172 := by unfold vN_; rw [up_ne (by decide), up_ne (by decide), up_ne (by decide)]
  unfold vA_ vH_
  rw [e6, e172]
  refine ⟨?_, ?_, ?_, ?_, ?_, ?_, up_at⟩
  · rw [up_ne (by decide), up_ne (by decide), up_ne (by decide), up_ne (by decide)]; unfold vN_; rw [up_ne (by decide), up_ne (by decide), up_at]
  · rw [up_ne (by decide), up_ne (by decide), up_ne (by decide), up_ne (by decide)]; unfold vN_; rw [up_ne (by decide), up_at]
  · rw [up_ne (by decide), up_ne (by decide), up_ne (by decide), up_ne (by decide)]; unfold vN_; rw [up_at]
  · rw [up_ne (by decide), up_ne (by decide), up_ne (by decide), up_at]
  · rw [up_ne (by decide), up_ne (by decide), up_at]
  · rw [up_ne (by decide), up_at]
theorem vA_o [Inhabited gh_] {n : Int} {r : Nat} {i : Int} (hr : r ∈ [177, 181, 182, 183, 184]) (h : i ≠ 8 * N 6 61 + n) : vA_ N n t s z r i = N r i := by
  have e6 : vN_ N n t 6 = N 6 := by unfold vN_; rw [up_ne (by decide), up_ne (by decide), up_ne (by decide)]
  unfold vA_ vH_
  rw [e6, up_ne (fun e => by rw [e] at hr; revert hr; decide), up_of2 h, up_of2 h, up_of2 h]
  unfold vN_
  rw [up_ne (fun e => by rw [e] at hr; revert hr; decide), up_of2 h, up_of2 h]
theorem HDR_v [Inhabited gh_] (h : HDR b F M N a) (hb : b = 0) (ht : nm9_ M t) (hta : t < a) (hlt : ∀ u, DCL M (M 1 18) u → u < t) (h124 : M 124 (M 1 18) < 8) (hc : M 125 (M 1 18) + (if 1 < z then z else 1) ≤ 16) (hz : 0 ≤ z ∧ z ≤ 8) (hs : 0 ≤ s ∧ s ≤ 2) (hf : M 1 7 + 1 + 8 * (1201 - a) ≤ 1000000000 - (gg_ : Int)) (hp : N 170 (M 1 18) ≤ M 124 (M 1 18)) :
    HDR b (Fd_ F M N t) (vX_ (nd_ M N t) t s z) (vA_ N (M 124 (M 1 18)) t (s + 1) z) a := by
  obtain ⟨h1, h2, h3, h4⟩ := h
  have hTS := h1.1
  have hT := hTS.1.1
  have hV := hTS.1.2.1
  have hE := TS_E hTS
  have hpl := (hT t ht.1).2.2.2.1
  have hF : Fd_ F M N t ≤ F := Fd_le
  have m1 : ∀ i : Int, i ≠ 4 → i ≠ 5 → i ≠ 7 → vX_ (nd_ M N t) t s z 1 i = M 1 i := fun i h4 h5 h7 => by rw [vX_r (by decide), nd_1 h4 h5 h7]
  have e18 : nd_ M N t 1 18 = M 1 18 := nd_1 (by decide) (by decide) (by decide)
  have e124 : nd_ M N t 124 = M 124 := nd_r (by decide)
  have e125 : nd_ M N t 125 = M 125 := nd_r (by decide)
  have v61 : N 6 61 = M 1 18 := hV.2.1
  have xr : ∀ r : Nat, r ≠ 1 → r ∉ [60, 124, 125, 130, 131, 132] → vX_ (nd_ M N t) t s z r = M r := fun r h1 h2 => by rw [vX_r h2, nd_r h1]
  have qr : ∀ r : Nat, r ∉ [171, 172, 177, 181, 182, 183, 184] → vA_ N (M 124 (M 1 18)) t (s + 1) z r = N r := fun r h => vA_r h
  have xk := vX_k (M := nd_ M N t) (t := t) (s := s) (z := z)
  rw [e18, e124, e125] at xk
  have xo : ∀ {r : Nat} {i : Int}, r ∈ [60, 130, 131, 132] → i ≠ 8 * M 1 18 + M 124 (M 1 18) → vX_ (nd_ M N t) t s z r i = M r i := fun {r i} hr hi => by
    rw [vX_o hr (by rw [e18, e124]; exact hi), nd_r (fun e => by rw [e] at hr; revert hr; decide)]
  have qk := vA_k (N := N) (n := M 124 (M 1 18)) (t := t) (s := s + 1) (z := z)
  rw [v61] at qk
  have qo : ∀ {r : Nat} {i : Int}, r ∈ [177, 181, 182, 183, 184] → i ≠ 8 * M 1 18 + M 124 (M 1 18) → vA_ N (M 124 (M 1 18)) t (s + 1) z r i = N r i := fun {r i} hr hi => vA_o hr (by rw [v61]; exact hi)
  have n7 := nd_7 (M := M) (N := N) (t := t)
  generalize eM : vX_ (nd_ M N t) t s z = M9 at *
  generalize eN : vA_ N (M 124 (M 1 18)) t (s + 1) z = N9 at *
  have k70 : M9 70 = M 70 := xr 70 (by decide) (by decide)
  have k71 : M9 71 = M 71 := xr 71 (by decide) (by decide)
  have q151 : N9 151 = N 151 := qr 151 (by decide)
  have q150 : N9 150 = N 150 := qr 150 (by decide)
  have q6 : N9 6 = N 6 := qr 6 (by decide)
  have x5 : M9 5 = M 5 := xr 5 (by decide) (by decide)
  have x18 : M9 1 18 = M 1 18 := m1 18 (by decide) (by decide) (by decide)
  have hT9 : Tks M9 N9 := Tks_r hT (fun r hr => xr r (fun e => by rw [e] at hr; revert hr; decide) (by revert hr; simp only [List.mem_cons, List.not_mem_nil, or_false]; (clear hb ht hta hlt h124 hc hz hs hf hp h1 h2 h3 h4 hTS hT hV hE hpl hF e18 e124 e125 v61 n7 eM m1 xr xk xo eN qr qk qo k70 k71 q151 q150 q6 x5 x18; omega))) (fun r hr => qr r (by revert hr; simp only [List.mem_cons, List.not_mem_nil, or_false]; (clear hb ht hta hlt h124 hc hz hs hf hp h1 h2 h3 h4 hTS hT hV hE hpl hF e18 e124 e125 v61 n7 eM m1 xr xk xo eN qr qk qo k70 k71 q151 q150 q6 x5 x18; omega)))
  have nm : ∀ u, nm9_ M u → nm9_ M9 u := fun u hu => nm9_r hu k70
  obtain ⟨w1, w2, w3, w4, ⟨w5, w6, w7⟩, ⟨w8, w9, w10⟩, w11, w12⟩ := id hV
  obtain ⟨⟨b1, b2, b3, bS, bD⟩, b4, b5, b6⟩ := h2
  have hV9 : VT M9 N9 := by
    refine ⟨by rw [m1 2 (by decide) (by decide) (by decide)]; exact w1, by rw [q6, x18]; exact w2, by rw [x18]; exact w3, by rw [x18]; exact w4, ?_, ?_, ?_, ?_⟩
    · rw [x18, xk.2.2.2.2.2, qk.2.2.1]; (clear hb ht hta hlt hc hz hs hf hp h1 h3 h4 hTS hT hV hE hpl hF e18 e124 e125 v61 n7 eM m1 xr xo eN qr qk qo k70 k71 q151 q150 q6 x5 x18 hT9 nm w1 w2 w3 w4 w6 w8 w9 w10 w11 w12 b1 b2 b3 bS bD b4 b5 b6; lia)
    · rw [x18, xr 126 (by decide) (by decide), qr 173 (by decide)]; exact ⟨w8, w9, w10⟩
    · rw [x18, xk.2.2.2.2.2]
      intro k k0 k1
      by_cases c : k = M 124 (M 1 18)
      · rw [c, xk.1, xk.2.1, xk.2.2.1, xk.2.2.2.1, qk.1, qk.2.2.2.1, qk.2.2.2.2.1, qk.2.2.2.2.2.1, q151]
        exact ⟨nm t ht, rfl, rfl, rfl, b1.symm, hs.1, hs.2, hz.1⟩
      · have r := w11 k k0 (by (clear hb ht hta hlt h124 hc hz hs hf hp h1 h3 h4 hTS hT hV hE hpl hF e18 e124 e125 v61 n7 eM m1 xr xo eN qr qk qo k70 k71 q151 q150 q6 x5 x18 hT9 nm w1 w2 w3 w4 w5 w6 w8 w9 w10 w11 w12 b1 b2 b3 bS bD b4 b5 b6 k0; lia))
        have i9 : 8 * M 1 18 + k ≠ 8 * M 1 18 + M 124 (M 1 18) := by (clear hb ht hta hlt h124 hc hz hs hf hp h1 h3 h4 hTS hT hV hE hpl hF e18 e124 e125 v61 n7 eM m1 xr xo eN qr qk qo k70 k71 q151 q150 q6 x5 x18 hT9 nm w1 w2 w3 w4 w5 w6 w8 w9 w10 w11 w12 b1 b2 b3 bS bD b4 b5 b6 k0 k1 r; lia)
        rw [xo (r := 60) (by decide) i9, xo (r := 130) (by decide) i9, xo (r := 131) (by decide) i9, xo (r := 132) (by decide) i9, qo (r := 177) (by decide) i9, qo (r := 182) (by decide) i9, qo (r := 183) (by decide) i9, qo (r := 184) (by decide) i9, q151]
        exact ⟨nm _ r.1, r.2⟩
    · rw [x18, xr 126 (by decide) (by decide), xr 61 (by decide) (by decide), qr 178 (by decide), q151]
      intro k k0 k1
      have r := w12 k k0 k1
      exact ⟨nm _ r.1, r.2⟩
  have hE9 : ER b (Fd_ F M N t) M9 N9 a 0 := by
    have e0 := ER_nd (t := t) hE hb (by (clear hb ht hta hlt h124 hc hz hs hf hp h1 h3 h4 hTS hT hV hE hF e18 e124 e125 v61 n7 eM m1 xr xk xo eN qr qk qo k70 k71 q151 q150 q6 x5 x18 hT9 nm w1 w2 w3 w4 w5 w6 w7 w8 w9 w10 w11 w12 b1 b2 b3 bS bD b4 b5 b6 hV9; omega)) (by (clear hb ht hta hlt h124 hc hz hs hp h1 h3 h4 hTS hT hV hE hpl hF e18 e124 e125 v61 n7 eM m1 xr xk xo eN qr qk qo k70 k71 q151 q150 q6 x5 x18 hT9 nm w1 w2 w3 w4 w5 w6 w7 w8 w9 w10 w11 w12 b1 b2 b3 bS bD b4 b5 b6 hV9; lia))
    have e1 : ER b (Fd_ F M N t) M9 N a 0 := ER_X2 e0 (by rw [k70, nd_r (by decide)]) (fun i _ _ => by rw [← eM, vX_r (by decide)]) (by rw [x5, nd_r (by decide)]) (by rw [← eM, vX_r (by decide)])
    exact ER_Q e1 (by rw [q6]) (by rw [q6]) (by rw [q6]) (by rw [q6]) (by rw [q6])
  have hG9 : GT b (Fd_ F M N t) M9 N9 (M9 71 a) := by
    obtain ⟨⟨g1, g2⟩, ⟨g3, g4, g5⟩, g6, g7⟩ := hTS.2.1
    refine ⟨⟨⟨by rw [x5, q6]; exact g1.1, fun k k0 k1 => ?_⟩, ?_⟩, ⟨⟨by rw [x5, q6]; exact g3.1, fun k k0 k1 => ?_⟩, fun k k0 k1 => ?_, fun hb1 => by omega⟩, ⟨⟨by rw [x5, q6]; exact g6.1, fun k k0 k1 => ?_⟩, fun hb1 => by omega⟩⟩
    · rw [x5] at k1
      rw [xr 56 (by decide) (by decide), qr 152 (by decide), q151]
      exact ⟨nm _ (g1.2 k k0 k1).1, (g1.2 k k0 k1).2⟩
    · rw [x5, xr 112 (by decide) (by decide), xr 113 (by decide) (by decide), qr 156 (by decide), qr 157 (by decide)]; exact g2
    · rw [x5] at k1
      rw [xr 58 (by decide) (by decide), qr 154 (by decide), q151]
      exact ⟨nm _ (g3.2 k k0 k1).1, (g3.2 k k0 k1).2⟩
    · rw [x5] at k1
      have r := g4 k k0 k1
      rw [qr 170 (by decide)]
      refine ⟨r.1, r.2.1, fun i i0 i1 => ?_⟩
      have i9 : 8 * k + i ≠ 8 * M 1 18 + M 124 (M 1 18) := by
        by_cases ck : k = M 1 18
        · rw [ck] at i1 ⊢; (clear hb ht hta hlt h124 hc hz hs hf h1 h3 h4 hTS hT hV hE hpl hF e18 e124 e125 v61 n7 eM m1 xr xo eN qr qk qo k70 k71 q151 q150 q6 x5 x18 hT9 nm w1 w2 w3 w4 w5 w6 w8 w9 w10 w11 w12 b1 b2 b3 bS bD b4 b5 b6 hV9 hE9 g1 g2 g3 g4 g5 g6 g7 k0 k1 r i0 ck; lia)
        · (clear hb ht hta hlt hc hz hs hf hp h1 h3 h4 hTS hT hV hE hpl hF e18 e124 e125 n7 eM m1 xr xo eN qr qk qo k70 k71 q151 q150 q6 x5 hT9 nm w1 w2 w3 w4 w6 w8 w9 w10 w11 w12 b1 b2 b3 bS bD b4 b5 b6 hV9 hE9 g1 g2 g3 g4 g5 g6 g7 k0 k1; lia)
      rw [qo (r := 182) (by decide) i9, qo (r := 183) (by decide) i9]
      exact r.2.2 i i0 i1
    · rw [x5] at k1
      rw [xr 57 (by decide) (by decide), qr 153 (by decide), q151]
      exact ⟨nm _ (g6.2 k k0 k1).1, (g6.2 k k0 k1).2⟩
  have hL9 : LBT b (Fd_ F M N t) M9 N9 a := by
    obtain ⟨l1, l2, l3⟩ := hTS.2.2.1
    unfold LBT lbl9
    rw [x18, xr 128 (by decide) (by decide), xr 62 (by decide) (by decide), k71, qr 175 (by decide), qr 180 (by decide), qr 187 (by decide), q151]
    refine ⟨⟨l1.1, fun k k0 k1 => ⟨nm _ (l1.2 k k0 k1).1, (l1.2 k k0 k1).2⟩⟩, fun k k0 k1 => ?_, fun _ => .inl h4.1, fun hb1 => by omega⟩
    have r := l2 k k0 k1
    exact ⟨r.1, r.2.1, fun i i0 i1 => ⟨(r.2.2 i i0 i1).1, fun e => Int.le_trans hF ((r.2.2 i i0 i1).2 e)⟩⟩
  have h99 : stt9 M9 N9 := by
    obtain ⟨l1, l2⟩ := hTS.2.2.2.1
    unfold stt9
    rw [x18, xr 123 (by decide) (by decide), xr 59 (by decide) (by decide), qr 174 (by decide), qr 179 (by decide), q151]
    exact ⟨l1, fun k k0 k1 => ⟨nm _ (l2 k k0 k1).1, (l2 k k0 k1).2⟩⟩
  have m7 : M9 1 7 = nd_ M N t 1 7 := by rw [← eM, vX_r (by decide)]
  have hTS9 : TS b (Fd_ F M N t) M9 N9 a := TS_mk hTS hT9 hV9 hE9 hG9 hL9 h99 (fun i hi => m1 i (by (clear hb ht hta hlt h124 hc hz hs hf hp h1 h3 h4 hTS hT hV hE hpl hF e18 e124 e125 v61 n7 eM m1 xr xk xo eN qr qk qo k70 k71 q151 q150 q6 x5 x18 hT9 nm w1 w2 w3 w4 w5 w6 w7 w8 w9 w10 w11 w12 b1 b2 b3 bS bD b4 b5 b6 hV9 hE9 hG9 hL9 h99 m7; lia)) (by (clear hb ht hta hlt h124 hc hz hs hf hp h1 h3 h4 hTS hT hV hE hpl hF e18 e124 e125 v61 n7 eM m1 xr xk xo eN qr qk qo k70 k71 q151 q150 q6 x5 x18 hT9 nm w1 w2 w3 w4 w5 w6 w7 w8 w9 w10 w11 w12 b1 b2 b3 bS bD b4 b5 b6 hV9 hE9 hG9 hL9 h99 m7; lia)) (by (clear hb ht hta hlt h124 hc hz hs hf hp h1 h3 h4 hTS hT hV hE hpl hF e18 e124 e125 v61 n7 eM m1 xr xk xo eN qr qk qo k70 k71 q151 q150 q6 x5 x18 hT9 nm w1 w2 w3 w4 w5 w6 w7 w8 w9 w10 w11 w12 b1 b2 b3 bS bD b4 b5 b6 hV9 hE9 hG9 hL9 h99 m7; omega))) (by rw [m7]; (clear hb ht hta hlt h124 hc hz hs hp h1 h3 h4 hTS hT hV hE hpl hF e18 e124 e125 v61 eM m1 xr xk xo eN qr qk qo k70 k71 q151 q150 q6 x5 x18 hT9 nm w1 w2 w3 w4 w5 w6 w7 w8 w9 w10 w11 w12 b1 b2 b3 bS bD b4 b5 b6 hV9 hE9 hG9 hL9 h99; omega)) (by rw [x5]) (fun i _ => by rw [q6])
  have dcl : ∀ u, DCL M9 (M 1 18) u ↔ DCL M (M 1 18) u ∨ u = t := fun u => by
    unfold DCL
    rw [xk.2.2.2.2.2, xr 126 (by decide) (by decide), xr 61 (by decide) (by decide)]
    constructor
    · rintro (⟨k, hk, e⟩ | h)
      · by_cases c : k = M 124 (M 1 18)
        · rw [c, xk.1] at e; exact .inr e.symm
        · rw [xo (r := 60) (by decide) (by (clear hb ht hta hlt h124 hc hz hs hf hp h1 h3 h4 hTS hT hV hE hpl hF e18 e124 e125 v61 n7 eM m1 xr xo eN qr qk qo k70 k71 q151 q150 q6 x5 x18 hT9 nm w1 w2 w3 w4 w5 w6 w8 w9 w10 w11 w12 b1 b2 b3 bS bD b4 b5 b6 hV9 hE9 hG9 hL9 h99 m7 hTS9 hk e; lia))] at e
          exact .inl (.inl ⟨k, ⟨hk.1, by (clear hb ht hta hlt h124 hc hz hs hf hp h1 h3 h4 hTS hT hV hE hpl hF e18 e124 e125 v61 n7 eM m1 xr xo eN qr qk qo k70 k71 q151 q150 q6 x5 x18 hT9 nm w1 w2 w3 w4 w5 w6 w8 w9 w10 w11 w12 b1 b2 b3 bS bD b4 b5 b6 hV9 hE9 hG9 hL9 h99 m7 hTS9 e; lia)⟩, e⟩)
      · exact .inl (.inr h)
    · rintro ((⟨k, hk, e⟩ | h) | e)
      · exact .inl ⟨k, ⟨hk.1, by (clear hb ht hta hlt h124 hc hz hs hf hp h1 h3 h4 hTS hT hV hE hpl hF e18 e124 e125 v61 n7 eM m1 xr xo eN qr qk qo k70 k71 q151 q150 q6 x5 x18 hT9 nm w1 w2 w3 w4 w5 w6 w8 w9 w10 w11 w12 b1 b2 b3 bS bD b4 b5 b6 hV9 hE9 hG9 hL9 h99 m7 hTS9 e; lia)⟩, by rw [xo (r := 60) (by decide) (by (clear hb ht hta hlt h124 hc hz hs hf hp h1 h3 h4 hTS hT hV hE hpl hF e18 e124 e125 v61 n7 eM m1 xr xo eN qr qk qo k70 k71 q151 q150 q6 x5 x18 hT9 nm w1 w2 w3 w4 w5 w6 w8 w9 w10 w11 w12 b1 b2 b3 bS bD b4 b5 b6 hV9 hE9 hG9 hL9 h99 m7 hTS9 e; lia))]; exact e⟩
      · exact .inr h
      · exact .inl ⟨M 124 (M 1 18), ⟨w5, by omega⟩, by rw [xk.1]; exact e.symm⟩
  refine ⟨⟨hTS9, by rw [x5, q6]; exact h1.2.1, fun hb1 => by omega⟩, ?_, fun _ u hu => ?_, by rw [x18]; exact HDG_d h4 hV dcl k71 q151 hlt⟩
  · rw [x18]
    refine ⟨?_, fun k k0 k1 => ?_, fun k k0 k1 => ?_, fun u v hu hv he huv => ?_⟩
    · rw [qk.2.2.2.2.2.2, xk.2.2.2.2.1]
      refine ⟨?_, by split <;> (clear hb ht hta hlt h124 hc hs hf hp h1 h3 h4 hTS hT hV hE hpl hF e18 e124 e125 v61 n7 eM m1 xr xo eN qr qo k70 k71 q151 q150 q6 x5 x18 hT9 nm w1 w2 w3 w4 w5 w6 w7 w8 w9 w10 w11 w12 bS bD b4 b5 b6 hV9 hE9 hG9 hL9 h99 m7 hTS9 dcl; lia), hc, fun k k0 k1 hs => ?_, fun i k i0 i1 k1 => ?_⟩
      · rw [b1]
        by_cases c : z = 0
        · rw [if_pos c, if_neg (by (clear hb ht hta hlt h124 hc hz hs hf hp h1 h3 h4 hTS hT hV hE hpl hF e18 e124 e125 v61 n7 eM m1 xr xo eN qr qo k70 k71 q151 q150 q6 x5 x18 hT9 nm w1 w2 w3 w4 w5 w6 w7 w8 w9 w10 w11 w12 b1 b2 b3 bS bD b4 b5 b6 hV9 hE9 hG9 hL9 h99 m7 hTS9 dcl; omega))]
        · rw [if_neg c]
          by_cases c2 : 1 < z
          · rw [if_pos c2]
          · rw [if_neg c2]; (clear hb ht hta hlt h124 hc hs hf hp h1 h3 h4 hTS hT hV hE hpl hF e18 e124 e125 v61 n7 eM m1 xr xo eN qr qo k70 k71 q151 q150 q6 x5 x18 hT9 nm w1 w2 w3 w4 w5 w6 w7 w8 w9 w10 w11 w12 b1 b2 b3 bS bD b4 b5 b6 hV9 hE9 hG9 hL9 h99 m7 hTS9 dcl; lia)
      · rw [xk.2.2.2.2.2] at k1 ⊢
        have old : ∀ j, 0 ≤ j → j ≤ k → j ≤ M 124 (M 1 18) → (if j = M 124 (M 1 18) then M 125 (M 1 18) else M 132 (8 * M 1 18 + j)) = j := fun j j0 jk j1 => bS j j0 j1 (fun i i0 i1 => by
          have e := hs i i0 (by (clear hb ht hta hlt h124 hc hz hf hp h1 h3 h4 hTS hT hV hE hpl hF e18 e124 e125 v61 n7 eM m1 xr xk xo eN qr qk qo k70 k71 q151 q150 q6 x5 x18 hT9 nm w1 w2 w3 w4 w5 w6 w7 w8 w9 w10 w11 w12 b1 b2 b3 bS bD b4 b5 b6 hV9 hE9 hG9 hL9 h99 m7 hTS9 dcl k0 k1 hs j0 j1 i0; omega))
          rw [xo (r := 131) (by decide) (by (clear hb ht hta hlt h124 hc hz hf hp h1 h3 h4 hTS hT hV hE hpl hF e18 e124 e125 v61 n7 eM m1 xr xo eN qr qk qo k70 k71 q151 q150 q6 x5 x18 hT9 nm w1 w2 w3 w4 w5 w6 w8 w9 w10 w11 w12 b1 b2 b3 bS bD b4 b5 b6 hV9 hE9 hG9 hL9 h99 m7 hTS9 dcl k0 k1 hs j0 jk i0 e; lia))] at e; exact e)
        by_cases c : k = M 124 (M 1 18) + 1
        · rw [if_pos c, xk.2.2.2.2.1]
          have e := hs (M 124 (M 1 18)) w5 (by (clear hb ht hta hlt h124 hc hz hf hp h1 h3 h4 hTS hT hV hE hpl hF e18 e124 e125 v61 n7 eM m1 xr xo eN qr qk qo k70 k71 q151 q150 q6 x5 x18 hT9 nm w1 w2 w3 w4 w5 w6 w8 w9 w10 w11 w12 b1 b2 b3 bS bD b4 b5 b6 hV9 hE9 hG9 hL9 h99 m7 hTS9 dcl k0 k1 hs old; omega))
          rw [xk.2.2.1] at e
          have o := old (M 124 (M 1 18)) w5 (by (clear hb ht hta hlt h124 hc hz hf hp h1 h3 h4 hTS hT hV hE hpl hF e18 e124 e125 v61 n7 eM m1 xr xo eN qr qk qo k70 k71 q151 q150 q6 x5 x18 hT9 nm w1 w2 w3 w4 w5 w6 w8 w9 w10 w11 w12 b1 b2 b3 bS bD b4 b5 b6 hV9 hE9 hG9 hL9 h99 m7 hTS9 dcl k0 k1 hs old e; lia)) (Int.le_refl _)
          rw [if_pos rfl] at o
          rw [e, if_neg (by decide)]; (clear hb ht hta hlt h124 hc hz hf hp h1 h3 h4 hTS hT hV hE hpl hF e18 e124 e125 v61 n7 eM m1 xr xo eN qr qo k70 k71 q151 q150 q6 x5 x18 hT9 nm w1 w2 w3 w4 w5 w6 w8 w9 w10 w11 w12 b2 b3 bS bD b4 b5 b6 hV9 hE9 hG9 hL9 h99 m7 hTS9 dcl k0 k1 hs old e; lia)
        · rw [if_neg c]
          have o := old k k0 (Int.le_refl _) (by (clear hb ht hta hlt h124 hc hz hf hp h1 h3 h4 hTS hT hV hE hpl hF e18 e124 e125 v61 n7 eM m1 xr xo eN qr qk qo k70 k71 q151 q150 q6 x5 x18 hT9 nm w1 w2 w3 w4 w5 w6 w8 w9 w10 w11 w12 b1 b2 b3 bS bD b4 b5 b6 hV9 hE9 hG9 hL9 h99 m7 hTS9 dcl k0 hs old; omega))
          by_cases c2 : k = M 124 (M 1 18)
          · rw [if_pos c2] at o; rw [c2, xk.2.2.2.1, o]; exact c2
          · rw [if_neg c2] at o; rw [xo (r := 132) (by decide) (by (clear hb ht hta hlt h124 hc hz hf hp h1 h3 h4 hTS hT hV hE hpl hF e18 e124 e125 v61 n7 eM m1 xr xo eN qr qk qo k70 k71 q151 q150 q6 x5 x18 hT9 nm w1 w2 w3 w4 w5 w6 w8 w9 w10 w11 w12 b1 b2 b3 bS bD b4 b5 b6 hV9 hE9 hG9 hL9 h99 m7 hTS9 dcl k0 k1 hs old c; lia))]; exact o
      · rw [xk.2.2.2.2.2] at k1
        rw [xo (r := 131) (i := 8 * M 1 18 + i) (by decide) (by (clear hb ht hta hlt h124 hc hz hs hf hp h1 h3 h4 hTS hT hV hE hpl hF e18 e124 e125 v61 n7 eM m1 xr xo eN qr qk qo k70 k71 q151 q150 q6 x5 x18 hT9 nm w1 w2 w3 w4 w5 w6 w8 w9 w10 w11 w12 b1 b2 b3 bS bD b4 b5 b6 hV9 hE9 hG9 hL9 h99 m7 hTS9 dcl i0; lia)), xo (r := 132) (i := 8 * M 1 18 + i) (by decide) (by omega)]
        by_cases c2 : k = M 124 (M 1 18)
        · rw [c2, xk.2.2.2.1]; exact (b4 i i0 (by (clear hb ht hta hlt h124 hc hz hs hf hp h1 h3 h4 hTS hT hV hE hpl hF e18 e124 e125 v61 n7 eM m1 xr xo eN qr qk qo k70 k71 q151 q150 q6 x5 x18 hT9 nm w1 w2 w3 w4 w5 w6 w8 w9 w10 w11 w12 b1 b2 b3 bS bD b4 b5 b6 hV9 hE9 hG9 hL9 h99 m7 hTS9 dcl i0 k1; omega))).1.2.1
        · rw [xo (r := 132) (by decide) (by (clear hb ht hta hlt h124 hc hz hs hf hp h1 h3 h4 hTS hT hV hE hpl hF e18 e124 e125 v61 n7 eM m1 xr xo eN qr qk qo k70 k71 q151 q150 q6 x5 x18 hT9 nm w1 w2 w3 w4 w5 w6 w8 w9 w10 w11 w12 b1 b2 b3 bS bD b4 b5 b6 hV9 hE9 hG9 hL9 h99 m7 hTS9 dcl i0 i1 k1; lia))]; exact bD i k i0 i1 (by (clear hb ht hta hlt h124 hc hz hs hf hp h1 h3 h4 hTS hT hV hE hpl hF e18 e124 e125 v61 n7 eM m1 xr xo eN qr qk qo k70 k71 q151 q150 q6 x5 x18 hT9 nm w1 w2 w3 w4 w5 w6 w8 w9 w10 w11 w12 b1 b2 b3 bS bD b4 b5 b6 hV9 hE9 hG9 hL9 h99 m7 hTS9 dcl i0 i1; lia))
    · rw [xk.2.2.2.2.2] at k1
      by_cases c : k = M 124 (M 1 18)
      · rw [c, xk.1, xk.2.2.1, xk.2.2.2.1, xk.2.2.2.2.1, qk.2.1, k71]
        exact ⟨⟨b2, Int.le_refl _, hz.2⟩, (hT t ht.1).2.1.symm⟩
      · have i9 : 8 * M 1 18 + k ≠ 8 * M 1 18 + M 124 (M 1 18) := by omega
        have r := b4 k k0 (by (clear hb ht hta hlt h124 hc hz hs hf hp h1 h3 h4 hTS hT hV hE hpl hF e18 e124 e125 v61 n7 eM m1 xr xo eN qr qk qo k70 k71 q151 q150 q6 x5 x18 hT9 nm w1 w2 w3 w4 w5 w6 w8 w9 w10 w11 w12 b1 b2 b3 bS bD b4 b5 b6 hV9 hE9 hG9 hL9 h99 m7 hTS9 dcl k0 c; lia))
        rw [xo (r := 60) (by decide) i9, xo (r := 131) (by decide) i9, xo (r := 132) (by decide) i9, xk.2.2.2.2.1, qo (r := 181) (by decide) i9, k71]
        refine ⟨⟨r.1.1, ?_, r.1.2.2⟩, r.2⟩
        have := r.1.2.1
        have : (0 : Int) < (if 1 < z then z else 1) := by split <;> (clear hb ht hta hlt h124 hc hs hf hp h1 h3 h4 hTS hT hV hE hpl hF e18 e124 e125 v61 n7 eM m1 xr xo eN qr qo k70 k71 q151 q150 q6 x5 x18 hT9 nm w1 w2 w3 w4 w5 w6 w7 w8 w9 w10 w11 w12 b1 b2 b3 bS bD b4 b5 b6 hV9 hE9 hG9 hL9 h99 m7 hTS9 dcl k0 k1 c i9 r this; lia)
        (clear hb ht hta hlt h124 hc hz hs hf hp h1 h3 h4 hTS hT hV hE hpl hF e18 e124 e125 v61 n7 eM m1 xr xo eN qr qo k70 k71 q151 q150 q6 x5 x18 hT9 nm w1 w2 w3 w4 w5 w6 w7 w8 w9 w10 w11 w12 b2 b3 bS bD b4 b5 b6 hV9 hE9 hG9 hL9 h99 m7 hTS9 dcl k0 k1 c i9; omega)
    · rw [xr 126 (by decide) (by decide)] at k1
      rw [qr 185 (by decide), xr 61 (by decide) (by decide), k71]; exact b5 k k0 k1
    · rw [q151] at he
      rw [k71]
      rw [dcl] at hu hv
      rcases hv with hv | hv
      · rcases hu with hu | hu
        · exact Int.le_trans hF (b6 u v hu hv he huv)
        · rw [hu] at huv; have := hlt v hv; (clear hb ht hta hlt h124 hc hz hs hf hp h1 h3 h4 hTS hT hV hE hpl hF e18 e124 e125 v61 n7 eM m1 xr xo eN qr qk qo k70 k71 q151 q150 q6 x5 x18 hT9 nm w1 w2 w3 w4 w5 w6 w7 w8 w9 w10 w11 w12 b1 b2 b3 bS bD b4 b5 b6 hV9 hE9 hG9 hL9 h99 m7 hTS9 dcl he hv; lia)
      · rcases hu with hu | hu
        · rw [hv] at he ⊢
          unfold Fd_
          rw [if_neg (DCL_told hV hu he)]
          exact Int.min_le_right _ _
        · (clear hb ht hta hlt h124 hc hz hs hf hp h1 h3 h4 hTS hT hV hE hpl hF e18 e124 e125 v61 n7 eM m1 xr xo eN qr qk qo k70 k71 q151 q150 q6 x5 x18 hT9 nm w1 w2 w3 w4 w5 w6 w7 w8 w9 w10 w11 w12 b1 b2 b3 bS bD b4 b5 b6 hV9 hE9 hG9 hL9 h99 m7 hTS9 dcl he; omega)
  · rw [x18, dcl] at hu
    rcases hu with hu | hu
    · exact h3 hb u hu
    · (clear hb ht hlt h124 hc hz hs hf hp h1 h3 h4 hTS hT hV hE hpl hF e18 e124 e125 v61 n7 eM m1 xr xo eN qr qk qo k70 k71 q151 q150 q6 x5 x18 hT9 nm w1 w2 w3 w4 w5 w6 w7 w8 w9 w10 w11 w12 b1 b2 b3 bS bD b4 b5 b6 hV9 hE9 hG9 hL9 h99 m7 hTS9 dcl; omega)
end VU
end T227_vr
section T228_so
/-! sorts (X 119 | Q 241) -/
def srS (κ : Int → Int) (a : Int) : Option Int := if 28 ≤ κ a ∧ κ a ≤ 30 then gS a else none
section SRT
variable {d : Nat} {b F : Int} {Mx Mq : mm_} {a o : Int} {K : Int → mm_ → Prop} {Kv : mm_ → Prop} {Qt : qt_}
theorem y_119 [Inhabited gh_] (hE : ER b F Mx Mq a o) (hS : b = 1 → srS (Mx 70) a ≠ none) (hg : 28 ≤ Mx 70 a → Mx 70 a ≤ 30 → a < 1200 → ER b F (nX_ Mx) (nx_ Mq) (a + 1) o → K (Mx 70 a - 28) (nX_ Mx)) (hr : b = 0 → 28 ≤ Mx 70 a → Mx 70 a ≤ 30 → a = 1200 → Qt 8 (flX_ Mx 2 a)) (hw : b = 0 → ¬ (28 ≤ Mx 70 a ∧ Mx 70 a ≤ 30) → Qt 8 (flX_ Mx 1 a)) : Tr_ wd0 pg0 (d + 3) 119 [.inr (.inr 1), .inl 0] Mx (ri_ K) Qt := by
  have e13 : Mx 1 3 = a := hE.2.1
  have ha := ER_a hE
  have h01 := bl01 hE
  have bs : b = 1 → (28 ≤ Mx 70 a ∧ Mx 70 a ≤ 30) ∧ a < 1200 := fun hb => by
    have h := hS hb
    unfold srS at h
    by_cases c : 28 ≤ Mx 70 a ∧ Mx 70 a ≤ 30
    · rw [if_pos c] at h; exact ⟨c, gS_n h⟩
    · rw [if_neg c] at h; exact absurd rfl h
  refine x_119 (ER_iX hE) ?_ ?_ ?_
  · rw [e13]
    intro h1 h2 _ h12
    exact hg h1 h2 h12 (ER_go hE h12 (by (clear hE hS hg hr hw e13 ha h01 bs h12; omega))).1
  · rw [e13]
    intro h
    rcases h01 with hb | hb
    · exact hw hb h
    · exact absurd (bs hb).1 h
  · rw [e13]
    intro h1 h2 h3
    rcases h01 with hb | hb
    · exact hr hb h1 h2 (by (clear hE hS hg hr hw e13 bs h1 h2 hb; lia))
    · have := (bs hb).2; omega
theorem q_241m [Inhabited gh_] {v : Int} (hT : Tks Mx Mq) (hE : ER b F Mx Mq a o) (hv : v = Mx 70 a - 27) (hk : 28 ≤ Mx 70 a ∧ Mx 70 a ≤ 30) (h : Tr_ wd0 pg0 (d + 2) 230 [.inr (.inr 6)] Mq (rv_ fun M1 => K v M1) Qt) : Tr_ wd0 pg0 (d + 3) 241 [.inr (.inr 6)] Mq (ri_ K) Qt := by
  have go := ER_goq hE
  have h' : ∀ w : Int, w = v → Tr_ wd0 pg0 (d + 2) 230 [.inr (.inr 6)] Mq (rv_ fun M1 => ri_ K [.inl w] M1) Qt := fun w hw => Tr_mono _ _ _ _ _ _ _ _ (fun vs M' ⟨e, k⟩ => ⟨e, by rw [hw]; exact ri_i k⟩) (fun _ _ h => h) h
  refine t_241 fun V hV hW => b_241_0 (Tr_mono _) hV hW _ ?_
  by_cases c1 : Mx 70 a = 28
  · refine j_229t hT hE (by decide) c1 ?_
    rw [if_neg (by decide)]
    refine q_227g go ?_
    rw [if_pos rfl, if_neg (by decide)]
    exact h' 1 (by (clear hT hE hk h go h' hV hW; omega))
  · refine j_229f hT hE (by decide) c1 ?_
    rw [if_pos rfl]
    by_cases c2 : Mx 70 a = 29
    · refine j_229t hT hE (by decide) c2 ?_
      rw [if_neg (by decide)]
      refine q_227g go ?_
      rw [if_pos rfl, if_neg (by decide)]
      exact h' 2 (by (clear hT hE hk h go h' hV hW c1; lia))
    · refine j_229f hT hE (by decide) c2 ?_
      rw [if_pos rfl]
      refine j_229t hT hE (by decide) (show Mx 70 a = 30 by (clear hT hE hv h go h' hV hW; lia)) ?_
      rw [if_neg (by decide)]
      refine q_227g go ?_
      rw [if_pos rfl, if_neg (by decide)]
      exact h' 3 (by (clear hT hE h go h' hV hW; lia))
theorem j_241t [Inhabited gh_] (hT : Tks Mx Mq) (hE : ER b F Mx Mq a o) (hk : 28 ≤ Mx 70 a ∧ Mx 70 a ≤ 30) (h12 : a < 1200) (h : K (Mx 70 a - 27) (nx_ Mq)) : Tr_ wd0 pg0 (d + 3) 241 [.inr (.inr 6)] Mq (ri_ K) Qt := by
  have kq := ER_k hT hE
  exact q_241m hT hE rfl hk (q_230g (ER_goq hE) kq.2.2.2.1 (kq.2.2.2.2.1 h12) h)
theorem j_241r [Inhabited gh_] (hT : Tks Mx Mq) (hE : ER b F Mx Mq a o) (hb : b = 0) (hk : 28 ≤ Mx 70 a ∧ Mx 70 a ≤ 30) (h12 : a = 1200) (h : ∀ v, K v (bf_ Mq 2 (Mx 71 a))) : Tr_ wd0 pg0 (d + 3) 241 [.inr (.inr 6)] Mq (ri_ K) Qt := by
  have kq := ER_k hT hE
  refine q_241m hT hE rfl hk (q_230r (ER_ok hE hb) (kq.2.2.2.2.2 h12) ?_)
  rw [kq.2.1]; exact h _
theorem j_241w [Inhabited gh_] (hT : Tks Mx Mq) (hE : ER b F Mx Mq a o) (hb : b = 0) (hk : ¬ (28 ≤ Mx 70 a ∧ Mx 70 a ≤ 30)) (h : K 0 (bf_ Mq 1 (Mx 71 a))) : Tr_ wd0 pg0 (d + 3) 241 [.inr (.inr 6)] Mq (ri_ K) Qt := by
  refine t_241 fun V hV hW => b_241_0 (Tr_mono _) hV hW _ ?_
  refine j_229f hT hE (by decide) (by (clear hT hE hb h hV hW; omega)) ?_
  rw [if_pos rfl]
  refine j_229f hT hE (by decide) (by omega) ?_
  rw [if_pos rfl]
  refine j_229f hT hE (by decide) (by omega) ?_
  rw [if_pos rfl]
  refine q_227g (ER_goq hE) ?_
  rw [if_pos rfl, if_pos (by decide)]
  exact j_234 hT hE hb (ri_i h)
theorem q_229s [Inhabited gh_] {x : Int} {N : mm_} (hi : in9_ N) (h : ∀ v, K v N) : Tr_ wd0 pg0 (d + 1) 229 [.inr (.inr 6), .inl x] N (ri_ K) Qt := by
  by_cases c : N 149 (N 6 12) = 4 ∧ N 151 (N 6 12) = x
  · exact q_229t hi c.1 c.2 (h 1)
  · exact q_229f hi c (h 0)
theorem q_241s [Inhabited gh_] {N : mm_} (hs : sp_ N) (hi : in9_ N) (h : K 0 N) : Tr_ wd0 pg0 (d + 3) 241 [.inr (.inr 6)] N (ri_ K) Qt := by
  refine t_241 fun V hV hW => b_241_0 (Tr_mono _) hV hW _ ?_
  refine q_229s hi fun v1 => ?_
  by_cases c1 : v1 = 0
  · rw [if_pos c1]
    refine q_229s hi fun v2 => ?_
    by_cases c2 : v2 = 0
    · rw [if_pos c2]
      refine q_229s hi fun v3 => ?_
      by_cases c3 : v3 = 0
      · rw [if_pos c3]; exact q_227s hs (by rw [if_neg (by decide)]; exact ri_i h)
      · rw [if_neg c3]; exact q_227s hs (by rw [if_neg (by decide)]; exact ri_i h)
    · rw [if_neg c2]; exact q_227s hs (by rw [if_neg (by decide)]; exact ri_i h)
  · rw [if_neg c1]; exact q_227s hs (by rw [if_neg (by decide)]; exact ri_i h)
end SRT
end T228_so
section T229_pr
/-! parameters of a process: commuting steps, pass 2's own, the count -/
section PA
variable {b F : Int} {M N N' M1 N1 : mm_} {a t n s z v : Int}
theorem vN_q1 [Inhabited gh_] : vN_ (q1_ N) n t = q1_ (vN_ N n t) := by
  unfold vN_
  rw [q1_6 (by decide), q1_r (by decide), q1_r (by decide), q1_r (by decide)]
  unfold q1_
  rw [up_cc (r := 6) (r' := 177) (.inl (by decide)), up_cc (r := 6) (r' := 181) (.inl (by decide)), up_cc (r := 6) (r' := 171) (.inl (by decide))]
theorem vH_q1 [Inhabited gh_] : vH_ (q1_ N) n s z = q1_ (vH_ N n s z) := by
  unfold vH_
  rw [q1_6 (by decide), q1_r (by decide)]
  unfold q1_
  rw [up_cc (r := 6) (r' := 182) (.inl (by decide)), up_cc (r := 6) (r' := 183) (.inl (by decide)), up_cc (r := 6) (r' := 184) (.inl (by decide)), up_cc (r := 6) (r' := 172) (.inl (by decide))]
theorem vN_nx [Inhabited gh_] : vN_ (nx_ N) n t = nx_ (vN_ N n t) := by
  have e : vN_ N n t 6 12 = N 6 12 := by unfold vN_; rw [up_ne (by decide), up_ne (by decide), up_ne (by decide)]
  have e2 : nx_ (vN_ N n t) = up_ (vN_ N n t) 6 12 (N 6 12 + 1) := by unfold nx_; rw [e]
  rw [e2]
  unfold vN_
  rw [nx_6 (by decide), nx_ne (by decide), nx_ne (by decide), nx_ne (by decide)]
  unfold nx_
  rw [up_cc (r := 6) (r' := 177) (.inl (by decide)), up_cc (r := 6) (r' := 181) (.inl (by decide)), up_cc (r := 6) (r' := 171) (.inl (by decide))]
theorem nd_o1 [Inhabited gh_] : nd_ (o1_ M) (q1_ N) t = o1_ (nd_ M N t) := by
  unfold nd_
  rw [q1_r (by decide), vrr_c q1_QF, tmr_c q1_QF]
  split
  · rfl
  · exact nt1_o1
theorem vX_o1 [Inhabited gh_] : vX_ (o1_ M) t s z = o1_ (vX_ M t s z) := by
  unfold vX_
  rw [o1_1 (by decide), o1_r (by decide), o1_r (by decide)]
  unfold o1_
  rw [up_cc (r := 1) (r' := 60) (.inl (by decide)), up_cc (r := 1) (r' := 130) (.inl (by decide)), up_cc (r := 1) (r' := 131) (.inl (by decide)), up_cc (r := 1) (r' := 132) (.inl (by decide)), up_cc (r := 1) (r' := 125) (.inl (by decide)), up_cc (r := 1) (r' := 124) (.inl (by decide))]
theorem up_q1 [Inhabited gh_] {r : Nat} {i v : Int} (h : r ≠ 6) : up_ (q1_ N) r i v = q1_ (up_ N r i v) := by
  unfold q1_; rw [up_cc (.inl (fun e => h e.symm))]
theorem OWM_q1 [Inhabited gh_] : OWM (q1_ N) t ↔ OWM N t := by
  unfold OWM
  rw [q1_6 (by decide), q1_r (r := 171) (by decide), q1_r (r := 177) (by decide), q1_r (r := 151) (by decide), q1_r (r := 181) (by decide), q1_r (r := 150) (by decide), q1_r (r := 173) (by decide), q1_r (r := 178) (by decide), q1_r (r := 185) (by decide)]
theorem OWI_q1 [Inhabited gh_] (h : OWI (q1_ N) t N') : ∃ N2, N' = q1_ N2 ∧ OWI N t N2 := by
  rcases h with h | ⟨h, m⟩
  · exact ⟨N, h, .inl rfl⟩
  · refine ⟨nt_ N 3 (N 150 t), ?_, .inr ⟨rfl, OWM_q1.1 m⟩⟩
    rw [h, q1_r (by decide), nt_q1]
theorem nt_QN [Inhabited gh_] {k p : Int} : QN N (nt_ N k p) := ⟨fun r h => ntQ_r h, fun i _ h1 h2 => ntQ_6 h1 h2⟩
/-- Q's note TWICE of pass 2, X's stood in pass 1 -/
theorem STA_nq [Inhabited gh_] {p ee : Int} (h : STA b F M N a ee) (hb : b = 1) (hp0 : 0 ≤ p ∧ p ≤ 5000) (hF : F ≤ 8 * p + 3) : STA b F M (nt_ N 3 p) a ee := by
  obtain ⟨h1, ⟨s1, s2, s3⟩, h4⟩ := h
  have hE := ER_nq (k := 3) (TS_E h1) hb (by decide) hp0 hF
  have t5 := h1.1.2.2.2.2.1
  have n2 := h1.2.2.2.2.2.2.2.2.2
  have q : ∀ i : Int, i ≠ 13 → i ≠ 14 → nt_ N 3 p 6 i = N 6 i := fun i h1 h2 => ntQ_6 h1 h2
  refine ⟨TS_w h1 XF_rf (QG_QF (QN_QF nt_QN)) hE (Int.le_refl _) (by rw [q 104 (by decide) (by decide)]; exact t5) n2 h1.2.2.2.2.2.1, ⟨s1, by rw [q 62 (by decide) (by decide)]; exact s2, by rw [q 63 (by decide) (by decide)]; exact s3⟩, fun hb => ?_⟩
  obtain ⟨⟨xs, hs⟩, hl⟩ := h4 hb
  refine ⟨⟨xs, SRW_a hs XA_rf (QF_QA (QN_QF nt_QN))⟩, fun h => ?_⟩
  rw [q 62 (by decide) (by decide), q 63 (by decide) (by decide), ntQ_r (by decide)]
  rw [q 62 (by decide) (by decide)] at h; exact hl h
theorem OWM_F [Inhabited gh_] (hT : Tks M N) (hV : VT M N) (h2 : TBL F M N (M 1 18)) (ht : nm9_ M t) (hd : DCL M (M 1 18) t) (hm : OWM N t) : F ≤ 8 * N 150 t + 3 := by
  have v := hV.2
  have pt : N 150 t = M 71 t := (hT t ht.1).2.1.symm
  have lt : ∀ u, nm9_ M u → M 71 u < M 71 t → u < t := fun u hu hl => by
    by_cases c : u < t
    · exact c
    · exfalso
      by_cases e : u = t
      · rw [e] at hl; (clear hT hV h2 ht hd hm v pt hu c e; lia)
      · have := (hT u hu.1).2.2.2.2.1 t ht.1 (by (clear hT hV h2 ht hd hm v pt hu hl; omega)); omega
  rw [pt]
  rcases hm with ⟨k, hk, e1, e2⟩ | ⟨k, hk, e1, e2⟩
  · rw [v.1] at hk e1 e2
    rw [v.2.2.2.1.2.2] at hk
    have r := v.2.2.2.2.2.1 k hk.1 hk.2
    have p := (h2.2.1 k hk.1 hk.2).2
    rw [pt, p] at e2
    rw [r.2.1] at e1
    exact h2.2.2.2 _ t (.inl ⟨k, hk, rfl⟩) hd e1 (lt _ r.1 e2)
  · rw [v.1] at hk e1 e2
    rw [v.2.2.2.2.1.2.2] at hk
    have r := v.2.2.2.2.2.2 k hk.1 hk.2
    have p := h2.2.2.1 k hk.1 hk.2
    rw [pt, p] at e2
    rw [r.2] at e1
    exact h2.2.2.2 _ t (.inr ⟨k, hk, rfl⟩) hd e1 (lt _ r.1 e2)
theorem HDR_ow [Inhabited gh_] (h : HDR b F M N a) (hb : b = 1) (ht : nm9_ M t) (hd : DCL M (M 1 18) t) (ho : OWI N t N') : HDR b F M N' a := by
  obtain ⟨h1, h2, h3, h4⟩ := h
  have hT := h1.1.1.1
  have hp := (hT t ht.1).2.2.2.1
  have pt : N 150 t = M 71 t := (hT t ht.1).2.1.symm
  refine ⟨?_, TBL_c h2 (fun _ _ => rfl) (fun r hr => OWI_r ho (fun c => by rw [c] at hr; revert hr; decide)), h3, HDG_c h4 (fun _ _ => rfl) (OWI_r ho (by decide))⟩
  rcases ho with e | ⟨e, m⟩
  · rw [e]; exact h1
  · rw [e]; exact STA_nq h1 hb (by (clear hb ht hd h1 h2 h3 h4 hT e m; omega)) (OWM_F hT h1.1.1.2.1 h2 ht hd m)
theorem HDR_170 [Inhabited gh_] (h : HDR b F M N a) (hb : b = 0) (hn : 0 ≤ n ∧ n < 3) (hT5 : True) (hs : 1 ≤ N 182 (8 * M 1 18 + n) ∧ N 182 (8 * M 1 18 + n) ≤ 3 ∧ N 183 (8 * M 1 18 + n) = 0) (hp : N 170 (M 1 18) = n) : HDR b F M (up_ N 170 (M 1 18) (n + 1)) a := by
  obtain ⟨h1, h2, h3, h4⟩ := h
  have q : ∀ r : Nat, r ≠ 170 → up_ N 170 (M 1 18) (n + 1) r = N r := fun r h => up_ne h
  have hTS := h1.1
  have q6 := q 6 (by decide)
  have hE := TS_E hTS
  refine ⟨⟨TS_mk hTS (Tks_r hTS.1.1 (fun _ _ => rfl) (fun r hr => q r (fun e => by rw [e] at hr; revert hr; decide))) ?_ (ER_Q hE (by rw [q6]) (by rw [q6]) (by rw [q6]) (by rw [q6]) (by rw [q6])) ?_ ?_ ?_ (fun _ _ => rfl) hTS.2.2.2.2.2.1 rfl (fun i _ => by rw [q6]), by rw [q6]; exact h1.2.1, fun hb1 => by omega⟩, TBL_c h2 (fun _ _ => rfl) (fun r hr => q r (fun e => by rw [e] at hr; revert hr; decide)), h3, HDG_c h4 (fun _ _ => rfl) (q 151 (by decide))⟩
  · have hV := hTS.1.2.1
    unfold VT at hV ⊢
    rw [q6, q 171 (by decide), q 173 (by decide), q 177 (by decide), q 182 (by decide), q 183 (by decide), q 184 (by decide), q 178 (by decide), q 151 (by decide)]
    exact hV
  · obtain ⟨⟨g1, g2⟩, ⟨g3, g4, g5⟩, g6, g7⟩ := hTS.2.1
    unfold GT SGT PRT RTT sgl9 tpl9 rtl9
    rw [q6, q 152 (by decide), q 151 (by decide), q 156 (by decide), q 157 (by decide), q 154 (by decide), q 153 (by decide), q 182 (by decide), q 183 (by decide), q 158 (by decide), q 164 (by decide)]
    refine ⟨⟨g1, g2⟩, ⟨g3, fun k k0 k1 => ?_, fun hb1 => by omega⟩, g6, fun hb1 => by omega⟩
    by_cases c : k = M 1 18
    · rw [c, up_at]
      refine ⟨by omega, by omega, fun i i0 i1 => ?_⟩
      by_cases ci : i = n
      · rw [ci]; exact hs
      · rw [c] at k0 k1
        exact (g4 (M 1 18) k0 k1).2.2 i i0 (by omega)
    · rw [up_of2 c]; exact g4 k k0 k1
  · have hL := hTS.2.2.1
    unfold LBT LBG lbl9 at hL ⊢
    rw [q 175 (by decide), q 180 (by decide), q 187 (by decide), q 151 (by decide)]; exact hL
  · have h9 := hTS.2.2.2.1
    unfold stt9 at h9 ⊢
    rw [q 174 (by decide), q 179 (by decide), q 151 (by decide)]; exact h9
end PA
end T229_pr
section T230_pr
/-! the head of a process: frames -/
def xpL : List Nat := [1, 5, 55, 56, 57, 58, 59, 60, 61, 62, 63, 64, 65, 66, 67, 68, 112, 113, 114, 115, 116, 117, 118, 119, 120, 121, 122, 123, 124, 125, 126, 127, 128, 129, 130, 131, 132, 133, 134, 135, 136, 137, 138, 139, 140, 141, 142, 143, 144]
def qpI : List Int := [12, 13, 14, 15, 16, 17, 18, 19, 58, 61, 62, 63, 75, 76, 90, 102, 103, 104, 107, 108, 109, 112, 116, 118]
def QPRr (r : Nat) : Prop := r = 6 ∨ (152 ≤ r ∧ r ≤ 234)
/-- all that a parse may change -/
def XPb (M M' : mm_) : Prop := Fr_ xpL M M'
def QPb (N N' : mm_) : Prop := (∀ r : Nat, ¬ QPRr r → N' r = N r) ∧ ∀ i : Int, i ∉ qpI → N' 6 i = N 6 i
def SQp [Inhabited gh_] (Mx' N N' : mm_) : Prop := sp_ N' ∧ in9_ N' ∧ N' 6 13 = Mx' 1 4 ∧ P14 Mx' N' ∧ QPb N N'
def vxL : List Nat := [60, 61, 124, 125, 126, 130, 131, 132]
def vqL : List Nat := [170, 171, 172, 173, 177, 178, 181, 182, 183, 184, 185]
/-- rows of other types stay -/
def PHR (T : Int) (M N M' N' : mm_) : Prop := (∀ i, i ≠ T → (M' 124 i = M 124 i ∧ M' 125 i = M 125 i ∧ M' 126 i = M 126 i) ∧ N' 170 i = N 170 i ∧ N' 171 i = N 171 i ∧ N' 172 i = N 172 i ∧ N' 173 i = N 173 i)
  ∧ (∀ i, i < 8 * T ∨ 8 * T + 8 ≤ i → (M' 60 i = M 60 i ∧ M' 130 i = M 130 i ∧ M' 131 i = M 131 i ∧ M' 132 i = M 132 i) ∧ N' 177 i = N 177 i ∧ N' 181 i = N 181 i ∧ N' 182 i = N 182 i ∧ N' 183 i = N 183 i ∧ N' 184 i = N 184 i)
  ∧ (∀ i, i < 3 * T ∨ 3 * T + 3 ≤ i → M' 61 i = M 61 i ∧ N' 178 i = N 178 i ∧ N' 185 i = N 185 i)
/-- in pass 2: Q's fault comes no later; names told twice between the two places are noted, but those of x -/
def PHD (x : Int → Prop) (b : Int) (M N M' N' : mm_) : Prop := M 1 3 ≤ M' 1 3 ∧ (b = 0 → ∀ u, DCL M' (M 1 18) u → DCL M (M 1 18) u ∨ M 1 3 ≤ u ∨ x u) ∧ (b = 1 → (kk_ (N' 6 13) (N' 6 14) ≤ kk_ (N 6 13) (N 6 14)) ∧ ∀ u v, DCL M (M 1 18) u → DCL M (M 1 18) v → u < v → N 151 u = N 151 v → M 1 3 ≤ v → v < M' 1 3 → ¬ x v → kk_ (N' 6 13) (N' 6 14) ≤ 8 * M 71 v + 3)
def PHFx (x : Int → Prop) (b F F' : Int) (M N M' N' : mm_) : Prop := ((∀ r : Nat, r ≠ 1 → r ∉ vxL → M' r = M r) ∧ (∀ i : Int, i ∉ [3, 4, 5, 6, 7] → M' 1 i = M 1 i) ∧ (∀ r : Nat, r ≠ 6 → r ∉ vqL → N' r = N r) ∧ (∀ i : Int, i ∉ [12, 13, 14, 15] → N' 6 i = N 6 i)) ∧ PHR (M 1 18) M N M' N' ∧ (b = 1 → (∀ r : Nat, r ≠ 1 → M' r = M r) ∧ (∀ r : Nat, r ≠ 6 → N' r = N r) ∧ (N' 6 13 = 0 → N 6 13 = 0)) ∧ F' ≤ F ∧ (b = 1 → F' = F) ∧ (∀ u, DCL M (M 1 18) u → DCL M' (M 1 18) u) ∧ PHD x b M N M' N'
def PHF (b F F' : Int) (M N M' N' : mm_) : Prop := PHFx (fun _ => False) b F F' M N M' N'
/-- a name told twice is noted -/
def ONT (b : Int) (M N' : mm_) (t : Int) : Prop := b = 1 → ∀ u, DCL M (M 1 18) u → u < t → N' 151 u = N' 151 t → kk_ (N' 6 13) (N' 6 14) ≤ 8 * M 71 t + 3
section PH
variable {b F F' F2 : Int} {M N N' M' M1 N1 M2 N2 : mm_} {a t n s z v T : Int}
theorem XPb_tr [Inhabited gh_] (h1 : XPb M M1) (h2 : XPb M1 M2) : XPb M M2 := Fr_tr h1 h2
theorem XPb_rf [Inhabited gh_] : XPb M M := Fr_rf
theorem QPb_rf [Inhabited gh_] : QPb N N := ⟨fun _ _ => rfl, fun _ _ => rfl⟩
theorem QPb_tr [Inhabited gh_] (h1 : QPb N N1) (h2 : QPb N1 N2) : QPb N N2 := ⟨fun r h => (h2.1 r h).trans (h1.1 r h), fun i h => (h2.2 i h).trans (h1.2 i h)⟩
theorem XSb_P [Inhabited gh_] (h : XSb M M1) : XPb M M1 := Fr_sub h.1 (by decide)
theorem QSb_P [Inhabited gh_] (h : QSb N N1) : QPb N N1 := ⟨fun r hr => h.1 r (fun e => hr (by revert e; unfold qbL QPRr; simp only [List.mem_cons, List.not_mem_nil, or_false]; omega)), fun i hi => h.2 i (fun e => hi (by revert e; unfold qbI qpI; simp only [List.mem_cons, List.not_mem_nil, or_false]; (clear h hi; lia)))⟩
theorem SQb_P [Inhabited gh_] (h : SQb M N N1) : SQp M N N1 := ⟨h.1, h.2.1, h.2.2.1, h.2.2.2.1, QSb_P h.2.2.2.2⟩
theorem SQ_P [Inhabited gh_] (h : SQ M N N1) : SQp M N N1 := ⟨h.1, h.2.1, h.2.2.1, h.2.2.2.1, QSb_P (QA_QSb h.2.2.2.2)⟩
theorem SQp_tr [Inhabited gh_] (h1 : QPb N N1) (h : SQp M N1 N2) : SQp M N N2 := ⟨h.1, h.2.1, h.2.2.1, h.2.2.2.1, QPb_tr h1 h.2.2.2.2⟩
theorem XF_P [Inhabited gh_] (h : XF M M1) : XPb M M1 := XSb_P (XA_XSb (XF_XA h))
theorem QF_P [Inhabited gh_] (h : QF N N1) : QPb N N1 := QSb_P (QA_QSb (QF_QA h))
theorem PHR_rf [Inhabited gh_] : PHR T M N M N := ⟨fun _ _ => ⟨⟨rfl, rfl, rfl⟩, rfl, rfl, rfl, rfl⟩, fun _ _ => ⟨⟨rfl, rfl, rfl, rfl⟩, rfl, rfl, rfl, rfl, rfl⟩, fun _ _ => ⟨rfl, rfl, rfl⟩⟩
theorem PHR_tr [Inhabited gh_] (h1 : PHR T M N M1 N1) (h2 : PHR T M1 N1 M2 N2) : PHR T M N M2 N2 := by
  obtain ⟨a1, a2, a3⟩ := h1
  obtain ⟨b1, b2, b3⟩ := h2
  refine ⟨fun i hi => ?_, fun i hi => ?_, fun i hi => ?_⟩
  · obtain ⟨⟨x1, x2, x3⟩, x4, x5, x6, x7⟩ := a1 i hi
    obtain ⟨⟨y1, y2, y3⟩, y4, y5, y6, y7⟩ := b1 i hi
    exact ⟨⟨y1.trans x1, y2.trans x2, y3.trans x3⟩, y4.trans x4, y5.trans x5, y6.trans x6, y7.trans x7⟩
  · obtain ⟨⟨x1, x2, x3, x8⟩, x4, x5, x6, x7, x9⟩ := a2 i hi
    obtain ⟨⟨y1, y2, y3, y8⟩, y4, y5, y6, y7, y9⟩ := b2 i hi
    exact ⟨⟨y1.trans x1, y2.trans x2, y3.trans x3, y8.trans x8⟩, y4.trans x4, y5.trans x5, y6.trans x6, y7.trans x7, y9.trans x9⟩
  · obtain ⟨x1, x2, x3⟩ := a3 i hi
    obtain ⟨y1, y2, y3⟩ := b3 i hi
    exact ⟨y1.trans x1, y2.trans x2, y3.trans x3⟩
theorem PHFx_tr [Inhabited gh_] {x : Int → Prop} (h1 : PHFx x b F F' M N M1 N1) (h2 : PHFx x b F' F2 M1 N1 M2 N2) : PHFx x b F F2 M N M2 N2 := by
  obtain ⟨⟨a1, a2, a3, a4⟩, a5, a6, a7, a8, a9, m1, d1, a10⟩ := h1
  obtain ⟨⟨b1, b2, b3, b4⟩, b5, b6, b7, b8, b9, m2, d2, b10⟩ := h2
  rw [a2 18 (by decide)] at b5 b9 d2
  refine ⟨⟨fun r x y => (b1 r x y).trans (a1 r x y), fun i x => (b2 i x).trans (a2 i x), fun r x y => (b3 r x y).trans (a3 r x y), fun i x => (b4 i x).trans (a4 i x)⟩, PHR_tr a5 b5, fun hb => ⟨fun r x => ((b6 hb).1 r x).trans ((a6 hb).1 r x), fun r x => ((b6 hb).2.1 r x).trans ((a6 hb).2.1 r x), fun e => (a6 hb).2.2 ((b6 hb).2.2 e)⟩, by omega, fun hb => (b8 hb).trans (a8 hb), fun u hu => b9 u (a9 u hu), by omega, fun hb u hu => ?_, fun hb => ?_⟩
  · rcases d2 hb u hu with h | h | h
    · exact d1 hb u h
    · exact .inr (.inl (by omega))
    · exact .inr (.inr h)
  obtain ⟨k1, k2⟩ := a10 hb
  obtain ⟨l1, l2⟩ := b10 hb
  have r := (a6 hb).1
  refine ⟨Int.le_trans l1 k1, fun u v hu hv huv he h3 h4 hx => ?_⟩
  by_cases c : v < M1 1 3
  · exact Int.le_trans l1 (k2 u v hu hv huv he h3 c hx)
  · have := l2 u v (by rw [a2 18 (by decide)]; exact (DCL_c (r _ (by decide)) (r _ (by decide)) (r _ (by decide)) (r _ (by decide))).2 hu) (by rw [a2 18 (by decide)]; exact (DCL_c (r _ (by decide)) (r _ (by decide)) (r _ (by decide)) (r _ (by decide))).2 hv) huv (by rw [(a6 hb).2.1 151 (by decide)]; exact he) (by omega) h4 hx
    rw [r 71 (by decide)] at this; exact this
theorem PHF_tr [Inhabited gh_] (h1 : PHF b F F' M N M1 N1) (h2 : PHF b F' F2 M1 N1 M2 N2) : PHF b F F2 M N M2 N2 := PHFx_tr h1 h2
theorem PHFx_w [Inhabited gh_] {x : Int → Prop} (h : PHF b F F' M N M1 N1) : PHFx x b F F' M N M1 N1 := ⟨h.1, h.2.1, h.2.2.1, h.2.2.2.1, h.2.2.2.2.1, h.2.2.2.2.2.1, h.2.2.2.2.2.2.1, fun hb u hu => ((h.2.2.2.2.2.2.2.1 hb u hu).imp id fun c => .inl (c.resolve_right fun e => e)), fun hb => ⟨(h.2.2.2.2.2.2.2.2 hb).1, fun u v a1 a2 a3 a4 a5 a6 _ => (h.2.2.2.2.2.2.2.2 hb).2 u v a1 a2 a3 a4 a5 a6 (fun e => e)⟩⟩
theorem PHFx_m [Inhabited gh_] {x y : Int → Prop} (h : PHFx x b F F' M N M1 N1) (hx : ∀ v, x v → y v) : PHFx y b F F' M N M1 N1 := ⟨h.1, h.2.1, h.2.2.1, h.2.2.2.1, h.2.2.2.2.1, h.2.2.2.2.2.1, h.2.2.2.2.2.2.1, fun hb u hu => ((h.2.2.2.2.2.2.2.1 hb u hu).imp id fun c => c.imp id (hx u)), fun hb => ⟨(h.2.2.2.2.2.2.2.2 hb).1, fun u v a1 a2 a3 a4 a5 a6 hn => (h.2.2.2.2.2.2.2.2 hb).2 u v a1 a2 a3 a4 a5 a6 (fun e => hn (hx v e))⟩⟩
/-- the name that was left is noted -/
theorem PHFx_on [Inhabited gh_] {x : Int → Prop} (h : PHFx x b F F' M N M1 N1) (h0 : b = 0 → ∀ v, x v → M 1 3 ≤ v) (ho : b = 1 → ∀ v, x v → ONT b M N1 v) : PHF b F F' M N M1 N1 := by
  refine ⟨h.1, h.2.1, h.2.2.1, h.2.2.2.1, h.2.2.2.2.1, h.2.2.2.2.2.1, h.2.2.2.2.2.2.1, fun hb u hu => ?_, fun hb => ⟨(h.2.2.2.2.2.2.2.2 hb).1, fun u v a1 a2 a3 a4 a5 a6 _ => ?_⟩⟩
  · rcases h.2.2.2.2.2.2.2.1 hb u hu with c | c | c
    · exact .inl c
    · exact .inr (.inl c)
    · exact .inr (.inl (h0 hb u c))
  by_cases c : x v
  · exact ho hb v c hb u a1 a3 (by rw [(h.2.2.1 hb).2.1 151 (by decide)]; exact a4)
  · exact (h.2.2.2.2.2.2.2.2 hb).2 u v a1 a2 a3 a4 a5 a6 c
theorem PHFx_0 [Inhabited gh_] {x : Int → Prop} (hx : ∀ r : Nat, r ≠ 1 → M1 r = M r) (h1 : ∀ i : Int, i ∉ [3, 4, 5, 6, 7] → M1 1 i = M 1 i) (hq : ∀ r : Nat, r ≠ 6 → N1 r = N r) (h6 : ∀ i : Int, i ∉ [12, 13, 14, 15] → N1 6 i = N 6 i) (h13 : b = 1 → N1 6 13 = 0 → N 6 13 = 0)
    (hk : b = 1 → kk_ (N1 6 13) (N1 6 14) ≤ kk_ (N 6 13) (N 6 14)) (h3 : M 1 3 ≤ M1 1 3) (hp : b = 1 → ∀ v, DCL M (M 1 18) v → M 1 3 ≤ v → v < M1 1 3 → x v) : PHFx x b F F M N M1 N1 := by
  refine ⟨⟨fun r x _ => hx r x, h1, fun r x _ => hq r x, h6⟩, ?_, fun hb => ⟨hx, hq, h13 hb⟩, Int.le_refl _, fun _ => rfl, fun u hu => (DCL_c (hx _ (by decide)) (hx _ (by decide)) (hx _ (by decide)) (hx _ (by decide))).2 hu, h3, fun _ u hu => .inl ((DCL_c (hx _ (by decide)) (hx _ (by decide)) (hx _ (by decide)) (hx _ (by decide))).1 hu), fun hb => ⟨hk hb, fun u v _ hv _ _ a5 a6 hn => absurd (hp hb v hv a5 a6) hn⟩⟩
  unfold PHR
  rw [hx 124 (by decide), hx 125 (by decide), hx 126 (by decide), hx 60 (by decide), hx 130 (by decide), hx 131 (by decide), hx 132 (by decide), hx 61 (by decide), hq 170 (by decide), hq 171 (by decide), hq 172 (by decide), hq 173 (by decide), hq 177 (by decide), hq 181 (by decide), hq 182 (by decide), hq 183 (by decide), hq 184 (by decide), hq 178 (by decide), hq 185 (by decide)]
  exact PHR_rf (N := N)
theorem PHF_0 [Inhabited gh_] (hx : ∀ r : Nat, r ≠ 1 → M1 r = M r) (h1 : ∀ i : Int, i ∉ [4, 5, 6, 7] → M1 1 i = M 1 i) (hq : ∀ r : Nat, r ≠ 6 → N1 r = N r) (h6 : ∀ i : Int, i ∉ [12, 13, 14, 15] → N1 6 i = N 6 i) (h13 : b = 1 → N1 6 13 = 0 → N 6 13 = 0) (hk : b = 1 → kk_ (N1 6 13) (N1 6 14) ≤ kk_ (N 6 13) (N 6 14)) : PHF b F F M N M1 N1 :=
  PHFx_0 hx (fun i hi => h1 i (fun e => hi (List.mem_cons_of_mem _ e))) hq h6 h13 hk (by rw [h1 3 (by decide)]; exact Int.le_refl _) (fun _ v _ h3 h4 => by rw [h1 3 (by decide)] at h4; omega)
theorem PHF_rf [Inhabited gh_] : PHF b F F M N M N := PHF_0 (fun _ _ => rfl) (fun _ _ => rfl) (fun _ _ => rfl) (fun _ _ => rfl) (fun _ h => h) (fun _ => Int.le_refl _)
theorem DCL_70 [Inhabited gh_] (hV : VT M N) (h : DCL M (M 1 18) t) : M 70 t = 100 := by
  rcases h with ⟨k, hk, e⟩ | ⟨k, hk, e⟩
  · have := (hV.2.2.2.2.2.2.1 k hk.1 hk.2).1.2; rw [e] at this; exact this
  · have := (hV.2.2.2.2.2.2.2 k hk.1 hk.2).1.2; rw [e] at this; exact this
/-- over a token: no name -/
theorem PHF_go [Inhabited gh_] (h : HDR b F M N a) (hk : M 70 a ≠ 100) : PHF b F F M N (nX_ M) (nx_ N) := PHFx_0 (fun r h => nX_ne h) (fun i h => nX_1 (nm_i h (by decide))) (fun r h => nx_ne h) (fun i h => nx_6 (nm_i h (by decide))) (fun _ h => by rw [nx_6 (by decide)] at h; exact h) (fun _ => by rw [nx_6 (by decide), nx_6 (by decide)]; exact Int.le_refl _) (by rw [nX_3]; have e3 := (TS_E h.1.1).2.1; omega) (fun _ v hv h3 h4 => by
  have e3 := (TS_E h.1.1).2.1
  rw [nX_3, e3] at h4
  have : v = a := by omega
  rw [this] at hv
  exact hk (DCL_70 h.1.1.1.2.1 hv))
/-- over a name -/
theorem PHFx_go [Inhabited gh_] (h : HDR b F M N a) : PHFx (fun v => v = a) b F F M N (nX_ M) (nx_ N) := PHFx_0 (fun r h => nX_ne h) (fun i h => nX_1 (nm_i h (by decide))) (fun r h => nx_ne h) (fun i h => nx_6 (nm_i h (by decide))) (fun _ h => by rw [nx_6 (by decide)] at h; exact h) (fun _ => by rw [nx_6 (by decide), nx_6 (by decide)]; exact Int.le_refl _) (by rw [nX_3]; have e3 := (TS_E h.1.1).2.1; omega) (fun _ v hv h3 h4 => by
  have e3 := (TS_E h.1.1).2.1
  rw [nX_3, e3] at h4
  omega)
theorem nt_le [Inhabited gh_] {k p : Int} (h : vk_ (N 6 13) (N 6 14)) (h1 : 1 ≤ k ∧ k ≤ 7) (hp : 0 ≤ p ∧ p ≤ 5000) : kk_ (nt_ N k p 6 13) (nt_ N k p 6 14) ≤ kk_ (N 6 13) (N 6 14) ∧ (N 6 16 = 1 → kk_ (nt_ N k p 6 13) (nt_ N k p 6 14) ≤ 8 * p + k) := by
  by_cases c : N 6 16 = 0
  · have e : nt_ N k p = N := by unfold nt_; rw [if_pos c]
    rw [e]; exact ⟨Int.le_refl _, fun e => by omega⟩
  · have hfq : fqq_ (nt_ N k p) = np_ (N 6 16) (fqq_ N) k p := nt_fq
    have e1 : np_ (N 6 16) (fqq_ N) k p = np_ 1 (fqq_ N) k p := by unfold np_; rw [if_neg c, if_neg (c := (1 : Int) = 0) (by decide)]
    rw [e1] at hfq
    have k2 := kk_np (q := fqq_ N) (k := k) (p := p) h h1.1 h1.2 hp.1 hp.2
    have f13 : nt_ N k p 6 13 = (np_ 1 (fqq_ N) k p).1 := congrArg Prod.fst hfq
    have f14 : nt_ N k p 6 14 = (np_ 1 (fqq_ N) k p).2 := congrArg Prod.snd hfq
    have hkq : kk_ (fqq_ N).1 (fqq_ N).2 = kk_ (N 6 13) (N 6 14) := rfl
    rw [f13, f14, k2.1, hkq]
    exact ⟨by (clear h h1 hp c hfq e1 k2 f13 f14 hkq; omega), fun _ => by omega⟩
theorem PHF_ow [Inhabited gh_] (h : HDR b F M N a) (ht : nm9_ M t) (ho : OWI N t N1) : PHF b F F M N M N1 := PHF_0 (fun _ _ => rfl) (fun _ _ => rfl) (fun r h => OWI_r ho h) (fun i h => OWI_6 ho (nm_i h (by decide)) (nm_i h (by decide))) (fun _ h => by
  rcases ho with e | ⟨e, _⟩
  · rw [e] at h; exact h
  · rw [e] at h
    unfold nt_ at h
    by_cases c : N 6 16 = 0
    · rw [if_pos c] at h; exact h
    · rw [if_neg c] at h
      by_cases c2 : N 6 13 = 0 ∨ N 150 t < N 6 14 ∨ N 150 t = N 6 14 ∧ 3 < N 6 13
      · rw [if_pos c2, bf_13] at h; exact absurd h (by decide)
      · rw [if_neg c2] at h; exact h) (fun _ => by
  have hT := h.1.1.1.1
  have hp := (hT t ht.1).2.2.2.1
  have pt : N 150 t = M 71 t := (hT t ht.1).2.1.symm
  rcases ho with e | ⟨e, _⟩
  · rw [e]; exact Int.le_refl _
  · rw [e]; exact (nt_le (TS_E h.1.1).2.2.2.2.2.2.2.2.2.2.1.2.1 (by decide) (by omega)).1)
theorem ONT_c [Inhabited gh_] (h : ONT b M1 N1 t) (hx : ∀ r : Nat, r ≠ 1 → M1 r = M r) (h18 : M1 1 18 = M 1 18) : ONT b M N1 t := by
  intro hb u hu hut he
  have := h hb u (by rw [h18]; exact (DCL_c (hx _ (by decide)) (hx _ (by decide)) (hx _ (by decide)) (hx _ (by decide))).2 hu) hut he
  rw [hx 71 (by decide)] at this; exact this
/-- own: a name told twice is noted -/
theorem ONT_ow [Inhabited gh_] (h : HDR b F M N a) (ht : nm9_ M t) (ho : OWX N t N1) : ONT b M N1 t := by
  intro hb u hu hut he
  have hT := h.1.1.1.1
  have hE := TS_E h.1.1
  have hV := h.1.1.1.2.1
  have v := hV.2
  have pt : N 150 t = M 71 t := (hT t ht.1).2.1.symm
  have hp := (hT t ht.1).2.2.2.1
  have e151 : N1 151 = N 151 := OWI_r (OWX_I ho) (by decide)
  rw [e151] at he
  have tb := h.2.1
  have hm : OWM N t := by
    rcases hu with ⟨k, hk, e⟩ | ⟨k, hk, e⟩
    · have r := v.2.2.2.2.2.1 k hk.1 hk.2
      have q := (tb.2.1 k hk.1 hk.2).2
      rw [e] at r q
      refine .inl ⟨k, ⟨hk.1, by rw [v.1, v.2.2.2.1.2.2]; exact hk.2⟩, by rw [v.1, r.2.1]; exact he, ?_⟩
      rw [v.1, q, pt]
      exact (hT t ht.1).2.2.2.2.1 u r.1.1 hut
    · have r := v.2.2.2.2.2.2 k hk.1 hk.2
      have q := tb.2.2.1 k hk.1 hk.2
      rw [e] at r q
      refine .inr ⟨k, ⟨hk.1, by rw [v.1, v.2.2.2.2.1.2.2]; exact hk.2⟩, by rw [v.1, r.2]; exact he, ?_⟩
      rw [v.1, q, pt]
      exact (hT t ht.1).2.2.2.2.1 u r.1.1 hut
  rcases ho with ⟨e, m⟩ | ⟨e, m⟩
  · exact absurd hm m
  · rw [e, ← pt]
    exact (nt_le hE.2.2.2.2.2.2.2.2.2.2.1.2.1 (by decide) (by (clear h ht hb hu hut he hT hE hV v e151 tb hm e m; lia))).2 (hE.2.2.2.2.2.2.2.1.trans hb)
theorem PHF_v [Inhabited gh_] (hb : b = 0) (hV : N 6 61 = M 1 18) (h124 : 0 ≤ M 124 (M 1 18) ∧ M 124 (M 1 18) < 8) : PHFx (fun v => b = 0 ∧ v = t) b F (Fd_ F M N t) M N (vX_ (nd_ M N t) t s z) (vA_ N (M 124 (M 1 18)) t v z) := by
  have e18 : nd_ M N t 1 18 = M 1 18 := nd_1 (by decide) (by decide) (by decide)
  have e124 : nd_ M N t 124 = M 124 := nd_r (by decide)
  refine ⟨⟨fun r h1 h2 => ?_, fun i hi => ?_, fun r h1 h2 => vA_r (fun e => h2 (by revert e; unfold vqL; simp only [List.mem_cons, List.not_mem_nil, or_false]; (clear hb hV h124 e18 e124 h1 h2; lia))), fun i _ => by rw [vA_r (by decide)]⟩, ⟨fun i hi => ?_, fun i hi => ?_, fun i hi => ?_⟩, fun hb1 => by omega, Fd_le, fun hb1 => by omega, fun u hu => ?_, by rw [vX_r (by decide), nd_1 (by decide) (by decide) (by decide)]; exact Int.le_refl _, fun _ u hu => ?_, fun hb1 => by omega⟩
  · rw [vX_r (fun e => h2 (by revert e; unfold vxL; simp only [List.mem_cons, List.not_mem_nil, or_false]; (clear hb hV h124 e18 e124 h1 h2; lia))), nd_r h1]
  · rw [vX_r (by decide), nd_1 (nm_i hi (by decide)) (nm_i hi (by decide)) (nm_i hi (by decide))]
  · have q : ∀ r : Nat, r ∈ [171, 172] → vA_ N (M 124 (M 1 18)) t v z r i = N r i := fun r hr => by
      have e6 : vN_ N (M 124 (M 1 18)) t 6 = N 6 := by unfold vN_; rw [up_ne (by decide), up_ne (by decide), up_ne (by decide)]
      unfold vA_ vH_
      rw [e6, hV, up_of2 hi, up_ne (fun e => by rw [e] at hr; revert hr; decide), up_ne (fun e => by rw [e] at hr; revert hr; decide), up_ne (fun e => by rw [e] at hr; revert hr; decide)]
      unfold vN_
      rw [hV, up_of2 hi, up_ne (fun e => by rw [e] at hr; revert hr; decide), up_ne (fun e => by rw [e] at hr; revert hr; decide)]
    refine ⟨⟨?_, ?_, ?_⟩, ?_, q 171 (by decide), q 172 (by decide), ?_⟩
    · rw [vX_t (by decide) (by rw [e18]; exact hi), nd_r (by decide)]
    · rw [vX_t (by decide) (by rw [e18]; exact hi), nd_r (by decide)]
    · rw [vX_r (by decide), nd_r (by decide)]
    · rw [vA_r (by decide)]
    · rw [vA_r (by decide)]
  · have i9 : i ≠ 8 * nd_ M N t 1 18 + nd_ M N t 124 (nd_ M N t 1 18) := by rw [e18, e124]; (clear hb hV e124; omega)
    have j9 : i ≠ 8 * N 6 61 + M 124 (M 1 18) := by rw [hV]; omega
    refine ⟨⟨?_, ?_, ?_, ?_⟩, vA_o (by decide) j9, vA_o (by decide) j9, vA_o (by decide) j9, vA_o (by decide) j9, vA_o (by decide) j9⟩
    · rw [vX_o (by decide) i9, nd_r (by decide)]
    · rw [vX_o (by decide) i9, nd_r (by decide)]
    · rw [vX_o (by decide) i9, nd_r (by decide)]
    · rw [vX_o (by decide) i9, nd_r (by decide)]
  · rw [vX_r (by decide), nd_r (by decide), vA_r (by decide), vA_r (by decide)]; exact ⟨rfl, rfl, rfl⟩
  · have xk := vX_k (M := nd_ M N t) (t := t) (s := s) (z := z)
    rw [e18, e124] at xk
    unfold DCL at hu ⊢
    rw [xk.2.2.2.2.2, vX_r (r := 126) (by decide), vX_r (r := 61) (by decide), nd_r (r := 126) (by decide), nd_r (r := 61) (by decide)]
    rcases hu with ⟨k, hk, e⟩ | h
    · exact .inl ⟨k, ⟨hk.1, by (clear hb hV h124 e18 e124 e; omega)⟩, by rw [vX_o (by decide) (by rw [e18, e124]; omega), nd_r (by decide)]; exact e⟩
    · exact .inr h
  · have xk := vX_k (M := nd_ M N t) (t := t) (s := s) (z := z)
    rw [e18, e124] at xk
    unfold DCL at hu ⊢
    rw [xk.2.2.2.2.2, vX_r (r := 126) (by decide), vX_r (r := 61) (by decide), nd_r (r := 126) (by decide), nd_r (r := 61) (by decide)] at hu
    rcases hu with ⟨k, hk, e⟩ | h
    · by_cases c : k = M 124 (M 1 18)
      · rw [c, xk.1] at e; exact .inr (.inr ⟨hb, e.symm⟩)
      · rw [vX_o (by decide) (by rw [e18, e124]; (clear hb hV h124 e18 e124 hk e; lia)), nd_r (by decide)] at e; exact .inl (.inl ⟨k, ⟨hk.1, by (clear hb hV h124 e18 e124 e; lia)⟩, e⟩)
    · exact .inl (.inr h)
theorem PHF_170 [Inhabited gh_] (hb : b = 0) : PHF b F F M N M (up_ N 170 (M 1 18) v) := by
  have q : ∀ r : Nat, r ≠ 170 → up_ N 170 (M 1 18) v r = N r := fun r h => up_ne h
  refine ⟨⟨fun _ _ _ => rfl, fun _ _ => rfl, fun r _ h2 => q r (fun e => h2 (by rw [e]; decide)), fun i _ => by rw [q 6 (by decide)]⟩, ⟨fun i hi => ⟨⟨rfl, rfl, rfl⟩, up_of2 hi, by rw [q 171 (by decide)], by rw [q 172 (by decide)], by rw [q 173 (by decide)]⟩, fun i _ => ⟨⟨rfl, rfl, rfl, rfl⟩, by rw [q 177 (by decide)], by rw [q 181 (by decide)], by rw [q 182 (by decide)], by rw [q 183 (by decide)], by rw [q 184 (by decide)]⟩, fun i _ => ⟨rfl, by rw [q 178 (by decide)], by rw [q 185 (by decide)]⟩⟩, fun hb1 => by (clear q; lia), Int.le_refl _, fun _ => rfl, fun _ h => h, Int.le_refl _, fun _ u hu => .inl hu, fun hb1 => by omega⟩
theorem PHF_X [Inhabited gh_] {x : Int → Prop} (h : PHFx x b F F' M N M1 N1) : XPb M M1 := fun r hr => h.1.1 r (fun e => hr (by rw [e]; decide)) (fun e => hr (by revert e; unfold vxL xpL; simp only [List.mem_cons, List.not_mem_nil, or_false]; (clear h hr; lia)))
theorem PHF_Q [Inhabited gh_] {x : Int → Prop} (h : PHFx x b F F' M N M1 N1) : QPb N N1 := ⟨fun r hr => h.1.2.2.1 r (fun e => hr (by unfold QPRr; (clear h hr; lia))) (fun e => hr (by revert e; unfold vqL QPRr; simp only [List.mem_cons, List.not_mem_nil, or_false]; (clear h hr; omega))), fun i hi => h.1.2.2.2 i (fun e => hi (by revert e; unfold qpI; simp only [List.mem_cons, List.not_mem_nil, or_false]; (clear h hi; lia)))⟩
end PH
end T230_pr
