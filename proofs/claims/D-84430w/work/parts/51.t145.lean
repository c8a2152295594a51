section T145_dh
/-! a decide: its head -/
def LMT (M : mm_) : Int → Int → Bool := fun j t => decide (0 ≤ j ∧ j < M 128 (M 1 18) ∧ M 62 (10 * M 1 18 + j) = t)
def LOK (b : Int) (lm : Int → Int → Bool) (Mx M' : mm_) : Prop := (b = 0 → ∀ j, lc_ b Mx ≤ j → j < lc_ b M' → lm j (M' 62 (10 * Mx 1 18 + j)) = true) ∧ (b = 1 → lm = LMT Mx)
/-- what is said of a part with n brackets still to be opened -/
def SPART [Inhabited gh_] (dq n : Nat) : Prop := ∀ (b F : Int) (Mx Mq : mm_) (a me st mk : Int) (K : Int → mm_ → Prop) (Qt : qt_), PS b F Mx Mq a (12 - (n : Int)) me → Mq 6 103 = 0 → (b = 1 → PTj (Mx 70) (LMT Mx) n (a, lc_ b Mx) ≠ none)
  → (∀ F' Mx' Mq' a' v c, PRC b F F' Mx Mq Mx' Mq' a a' (12 - (n : Int)) (12 - (n : Int)) me → SEM b Mx Mq Mx' Mq' v → (v = 0 ∨ v = 1) → Mq' 6 103 = v → ((c = 1 ∧ v = 1) ∨ (c = 0 ∧ ¬ isA (Mx 70) a' ∧ ¬ isL (Mx 70) a')) → (∀ lm, LOK b lm Mx Mx' → PTj (Mx 70) lm n (a, lc_ b Mx) = some (a', lc_ b Mx')) → RT (dq + 15) st mk me 0 Mq c Mq' → K v Mx')
  → (b = 0 → ∀ Mx', XA Mx Mx' → STq (dq + 15) st mk me 0 Mq Mx' → Qt 8 Mx') → Tr_ wd0 pg0 (9 * n + 19) 133 [.inr (.inr 1)] Mx (ri_ K) Qt
/-- between two parts of a decide -/
def DHS [Inhabited gh_] (b F F' : Int) (Mx Mq M N : mm_) (a0 a o me x2 x3 x4 x5 : Int) (mm : Nat) : Prop :=
  PRD b F F' Mx Mq M N a0 a o (o + 1) me ∧ N 6 102 = Mq 6 102 + 1
  ∧ (N 220 (Mq 6 102) = Mq 6 75 ∧ N 221 (Mq 6 102) = x3 ∧ (0 ≤ x3 ∧ x3 ≤ 8) ∧ (-1 ≤ N 222 (Mq 6 102) ∧ N 222 (Mq 6 102) < N 6 90) ∧ (0 ≤ N 222 (Mq 6 102) → Mq 6 90 ≤ N 222 (Mq 6 102)) ∧ (b = 1 → N 223 (Mq 6 102) = (if x2 = 2 then -1 else x2) + 1) ∧ N 225 (Mq 6 102) = 0 ∧ N 226 (Mq 6 102) = x5 ∧ (x5 = 0 ∨ x5 = 1))
  ∧ Mq 6 75 < N 6 75 ∧ N 207 (Mq 6 75) = -1 ∧ QHO (Mq 6 75) (N 6 75) mm N (N 224 (Mq 6 102)) ∧ (b = 1 → XHO (Mx 5 3) (M 5 3) mm M x4)
  ∧ (b = 1 → N 6 13 = 0 → Mq 6 13 = 0 ∧ DSEM Mx Mq M N (Mq 6 61) x4 x5 mm)
def hD_ (N : mm_) (p e q dd : Int) : mm_ := up_ (up_ (up_ (up_ (up_ (up_ (up_ (up_ (up_ (em_ N 6 p) 205 (N 6 75) e) 220 dd (N 6 75)) 221 dd 0) 222 dd (-1)) 223 dd q) 224 dd (-1)) 225 dd 0) 226 dd 1) 6 102 (dd + 1)
/-- hidden from the arithmetic -/
def hid_ (p : Prop) : Prop := p
theorem hid_mk {p : Prop} (h : p) : hid_ p := h
theorem hid_un {p : Prop} (h : hid_ p) : p := h
section DH
variable {d dq n m : Nat} {b F : Int} {Mx Mq M N Ma : mm_} {a o x st mk me c p e q dd : Int} {K : Int → mm_ → Prop} {Kv G : mm_ → Prop} {Qt : qt_} {V : vv_}
theorem hD_6 [Inhabited gh_] {i : Int} (h : i ≠ 75) (h2 : i ≠ 102) : hD_ N p e q dd 6 i = N 6 i := by unfold hD_; rw [up_off h2, up_ne (by decide), up_ne (by decide), up_ne (by decide), up_ne (by decide), up_ne (by decide), up_ne (by decide), up_ne (by decide), up_ne (by decide), em_6 h]
theorem hD_75 [Inhabited gh_] : hD_ N p e q dd 6 75 = N 6 75 + 1 := by unfold hD_; rw [up_off (by decide), up_ne (by decide), up_ne (by decide), up_ne (by decide), up_ne (by decide), up_ne (by decide), up_ne (by decide), up_ne (by decide), up_ne (by decide), em_75]
theorem hD_102 [Inhabited gh_] : hD_ N p e q dd 6 102 = dd + 1 := by unfold hD_; rw [up_at]
theorem hD_r [Inhabited gh_] {r : Nat} (h6 : r ≠ 6) (h : r < 203 ∨ (210 < r ∧ r < 220) ∨ 226 < r ∨ r = 209) : hD_ N p e q dd r = N r := by
  unfold hD_; rw [up_ne h6, up_ne (by omega), up_ne (by omega), up_ne (by omega), up_ne (by omega), up_ne (by omega), up_ne (by omega), up_ne (by omega), up_ne (by omega)]
  by_cases c : r = 209
  · rw [c, em_209]
  · exact em_r (by omega) h6
theorem hD_o [Inhabited gh_] {r : Nat} {i : Int} (hr : r ∈ opL) (h : i ≠ N 6 75) : hD_ N p e q dd r i = N r i := by
  have h6 : r ≠ 6 := fun e => absurd hr (by rw [e]; decide)
  have hb : r ≠ 220 ∧ r ≠ 221 ∧ r ≠ 222 ∧ r ≠ 223 ∧ r ≠ 224 ∧ r ≠ 225 ∧ r ≠ 226 := by unfold opL at hr; simp only [List.mem_cons, List.not_mem_nil, or_false] at hr; omega
  unfold hD_
  rw [up_ne h6, up_ne hb.2.2.2.2.2.2, up_ne hb.2.2.2.2.2.1, up_ne hb.2.2.2.2.1, up_ne hb.2.2.2.1, up_ne hb.2.2.1, up_ne hb.2.1, up_ne hb.1, up_of2 h, em_o h6 h]
theorem hD_d [Inhabited gh_] {r : Nat} {i : Int} (hr : r ∈ dsR) (h : i ≠ dd) : hD_ N p e q dd r i = N r i := by
  have h6 : r ≠ 6 := fun e => absurd hr (by rw [e]; decide)
  have h5 : r ≠ 205 := fun e => absurd hr (by rw [e]; decide)
  have hb : r < 203 ∨ 210 < r := by unfold dsR at hr; simp only [List.mem_cons, List.not_mem_nil, or_false] at hr; omega
  unfold hD_
  rw [up_ne h6, up_of2 h, up_of2 h, up_of2 h, up_of2 h, up_of2 h, up_of2 h, up_of2 h, up_ne h5, em_r hb h6]
theorem hD_k [Inhabited gh_] (hd : True) : hD_ N p e q dd 203 (N 6 75) = 6 ∧ hD_ N p e q dd 204 (N 6 75) = p ∧ hD_ N p e q dd 205 (N 6 75) = e ∧ hD_ N p e q dd 207 (N 6 75) = -1 := by
  unfold hD_
  refine ⟨?_, ?_, ?_, ?_⟩
  · rw [up_ne (by decide), up_ne (by decide), up_ne (by decide), up_ne (by decide), up_ne (by decide), up_ne (by decide), up_ne (by decide), up_ne (by decide), up_ne (by decide), em_203]
  · rw [up_ne (by decide), up_ne (by decide), up_ne (by decide), up_ne (by decide), up_ne (by decide), up_ne (by decide), up_ne (by decide), up_ne (by decide), up_ne (by decide), em_204]
  · rw [up_ne (by decide), up_ne (by decide), up_ne (by decide), up_ne (by decide), up_ne (by decide), up_ne (by decide), up_ne (by decide), up_ne (by decide), up_at]
  · rw [up_ne (by decide), up_ne (by decide), up_ne (by decide), up_ne (by decide), up_ne (by decide), up_ne (by decide), up_ne (by decide), up_ne (by decide), up_ne (by decide), em_207]
theorem hD_dd [Inhabited gh_] : hD_ N p e q dd 220 dd = N 6 75 ∧ hD_ N p e q dd 221 dd = 0 ∧ hD_ N p e q dd 222 dd = -1 ∧ hD_ N p e q dd 223 dd = q ∧ hD_ N p e q dd 224 dd = -1 ∧ hD_ N p e q dd 225 dd = 0 ∧ hD_ N p e q dd 226 dd = 1 := by
  unfold hD_
  refine ⟨?_, ?_, ?_, ?_, ?_, ?_, ?_⟩
  · rw [up_ne (by decide), up_ne (by decide), up_ne (by decide), up_ne (by decide), up_ne (by decide), up_ne (by decide), up_ne (by decide), up_at]
  · rw [up_ne (by decide), up_ne (by decide), up_ne (by decide), up_ne (by decide), up_ne (by decide), up_ne (by decide), up_at]
  · rw [up_ne (by decide), up_ne (by decide), up_ne (by decide), up_ne (by decide), up_ne (by decide), up_at]
  · rw [up_ne (by decide), up_ne (by decide), up_ne (by decide), up_ne (by decide), up_at]
  · rw [up_ne (by decide), up_ne (by decide), up_ne (by decide), up_at]
  · rw [up_ne (by decide), up_ne (by decide), up_at]
  · rw [up_ne (by decide), up_at]
theorem hD_QD [Inhabited gh_] : QD N (hD_ N p e q dd) := by
  unfold hD_
  exact QD_tr (QD_tr (QD_tr (QD_tr (QD_tr (QD_tr (QD_tr (QD_tr (QD_tr (QC_QD em_QC) (QD_ur (by decide) (by decide))) (QD_ur (by decide) (by decide))) (QD_ur (by decide) (by decide))) (QD_ur (by decide) (by decide))) (QD_ur (by decide) (by decide))) (QD_ur (by decide) (by decide))) (QD_ur (by decide) (by decide))) (QD_ur (by decide) (by decide))) (QD_u6 (by decide))
theorem QG_QD [Inhabited gh_] {M M' : mm_} (h : QG M M') : QD M M' := QC_QD (QG_QC h)
theorem QN_QD [Inhabited gh_] {M M' : mm_} (h : QN M M') : QD M M' := QC_QD (QF_QC (QN_QF h))
set_option maxHeartbeats 4000000 in
theorem y_161h [Inhabited gh_] (hn : m + 1 ≤ 12) (ho : o = 11 - (m : Int)) (hp : PS b F Mx Mq a o me) (hP : PXL b Mx Ma [Mx 71 a, 30]) (hk : Mx 70 a = 18) {pt : sj_ → Option sj_} {j : Int} (hS : b = 1 → dcT (Mx 70) pt o (a, j) ≠ none)
    (hV : Cl_ wd0 (Tr_ wd0 pg0 (9 * m + 24)) V (ri_ K) Qt m_161) (hW : Wk_ V)
    (hK : ∀ M1 N1 a1 x1 x2, DHS b F F Mx Mq M1 N1 a a1 o me x2 0 (-1) 1 0 → XF Mx M1 → (∀ pt, dcT (Mx 70) pt o (a, j) = (LQ (dcT1 (Mx 70) pt) ((a1, j), 0)).bind (elT (Mx 70) pt)) → (∀ (Kv : mm_ → Prop) (Qtq : qt_), Tr_ wd0 pg0 (dq + 13) 291 [.inr (.inr 6)] N1 (rv_ Kv) Qtq → Tr_ wd0 pg0 (dq + 15) 269 [.inr (.inr 6)] Mq (rv_ Kv) Qtq)
        → V 50 [rr 1, ii x1, ii x2, ii 0, ii (-1), ii 1, none, none, none, none, none, none, none] [] M1)
    (hQ : b = 0 → ∀ Mx', XA Mx Mx' → (∀ (Kv : mm_ → Prop) (Qtq : qt_), (∀ M', SQ Mx' Mq M' → Kv M') → Tr_ wd0 pg0 (dq + 15) 269 [.inr (.inr 6)] Mq (rv_ Kv) Qtq) → Qt 8 Mx') :
    V 0 [rr 1, none, none, none, none, none, none, none, none, none, none, none, none] [] Ma := by
  have hps := hp
  obtain ⟨⟨hT, hVT, hE0, t4, t5, t6⟩, hG, hL, hst, ⟨u1, u2, u3⟩, w0, r90, d102, msk, c19, s53⟩ := hp
  have h01 := bl01 hE0
  obtain ⟨P1, P2, P3, P4, P5, P6, P7⟩ := hP
  have len : ((([Mx 71 a, 30] : List Int).length : Nat) : Int) = 2 := rfl
  rw [len] at P7
  have st0 := (ER_st hE0).1
  have xar : ∀ r : Nat, r ≠ 1 → r ≠ 5 → r ≠ 142 → Ma r = Mx r := fun r a b c => XF_70 P1 a b c
  have hE : ER b F Ma Mq a o := by
    obtain ⟨e1, e2, e3, e4, e5, e6, e7, e8, e9, e10, e11, e12, e13, e14, e15⟩ := hE0
    exact ⟨gd_c (xar 70 (by decide) (by decide) (by decide)) e1, by rw [P2]; exact e2, e3, by rw [P2]; exact e4, e5, e6, by rw [P2]; exact e7, e8, e9, e10, by unfold NR; rw [P2]; exact e11, by rw [P2]; exact e12, by rw [P2]; exact e13, by omega, by omega⟩
  have hTa : Tks Ma Mq := Tks_a (XF_XA P1) QA_rf hT
  have hVa : VT Ma Mq := VT_a (XF_XA P1) QA_rf hVT
  have a70 : Ma 70 = Mx 70 := xar 70 (by decide) (by decide) (by decide)
  have a71 : Ma 71 = Mx 71 := xar 71 (by decide) (by decide) (by decide)
  have hae := ER_a hE0
  have oo : o ≠ 12 := by omega
  have dS : ∀ pt, dcT (Mx 70) pt o (a, j) = (gS a).bind fun a1 => (ES (Mx 70) 0 (o + 1) a1).bind fun a2 => (tS (Mx 70) 259 a2).bind fun a3 => (LQ (dcT1 (Mx 70) pt) ((a3, j), 0)).bind (elT (Mx 70) pt) := fun pt => by unfold dcT; rw [if_neg oo]
  rw [dS] at hS
  obtain ⟨q1, q2, q3, q4, q5, q6⟩ := ER_k hTa hE
  have hp0 : Mq 150 (Mq 6 12) = Mx 71 a := by rw [q2, a71]
  refine b_161_0 (Tr_mono _) hV hW Ma ?_
  refine y_118 hE (fun _ => oo) (fun ho12 hE1 => ?_) (fun _ h => absurd h oo)
  have hT1 : Tks (up_ Ma 1 6 (o + 1)) (up_ Mq 6 15 (o + 1)) := Tks_c oX_XF oq_QF hTa
  have b70 : up_ Ma 1 6 (o + 1) 70 = Mx 70 := by rw [up_ne (by decide)]; exact a70
  -- Q's 269 up to its word
  have preA : ∀ (MQ : mm_), ((a < 1200 ∧ MQ = nx_ (up_ Mq 6 15 (o + 1))) ∨ (b = 0 ∧ a = 1200 ∧ MQ = bf_ (up_ Mq 6 15 (o + 1)) 2 (Mx 71 a))) → ∀ (Kv : mm_ → Prop) (Qtq : qt_), (∀ V : vv_, Cl_ wd0 (Tr_ wd0 pg0 (dq + 14)) V (rv_ Kv) Qtq m_269 → Wk_ V → Tr_ wd0 pg0 (dq + 14) 270 [.inr (.inr 6), .inl 0] MQ (ri_ fun v1 M3 => Tr_ wd0 pg0 (dq + 14) 227 [.inr (.inr 6)] M3 (ri_ fun v2 M4 =>
     (if v2 = 0 then
      (bl_ (M4 6 109) → (if M4 6 109 = 0 then
       (bl_ (M4 6 109) → (if M4 6 109 = 0 then
        (if M4 6 107 = 3 then
         Tr_ wd0 pg0 (dq + 14) 236 [.inr (.inr 6), .inl 5, .inl (M4 6 108)] M4 (rv_ fun M5 =>
          V 76 [rr 6, ii (Mx 71 a), ii v1, ii 0, none] [] M5) Qtq
        else
         V 76 [rr 6, ii (Mx 71 a), ii v1, ii (M4 6 107), none] [] M4)
       else
        V 76 [rr 6, ii (Mx 71 a), ii v1, ii (M4 6 107), none] [] M4))
      else
       (bl_ (M4 6 109) → (if M4 6 109 = 0 then
        (if M4 6 107 = 3 then
         Tr_ wd0 pg0 (dq + 14) 236 [.inr (.inr 6), .inl 5, .inl (M4 6 108)] M4 (rv_ fun M6 =>
          V 76 [rr 6, ii (Mx 71 a), ii v1, ii 0, none] [] M6) Qtq
        else
         V 76 [rr 6, ii (Mx 71 a), ii v1, ii 0, none] [] M4)
       else
        V 76 [rr 6, ii (Mx 71 a), ii v1, ii 0, none] [] M4))))
     else
      rv_ Kv [] M4)) Qtq) Qtq) → Tr_ wd0 pg0 (dq + 15) 269 [.inr (.inr 6)] Mq (rv_ Kv) Qtq := by
    intro MQ hMQ Kv Qtq hq
    refine t_269 fun V hV hW => b_269_0 (Tr_mono _) hV hW Mq ⟨q3, ?_⟩
    have e15 := hE.2.2.2.2.1
    refine q_240g (by omega) (by omega) ?_
    rw [e15, hp0]
    have := hq V hV hW
    rcases hMQ with ⟨h12, e⟩ | ⟨hb, h12, e⟩
    · rw [e] at this
      exact j_250t hT1 hE1 (by decide) (by rw [b70]; exact hk) h12 this
    · rw [e] at this
      refine j_250r hT1 hE1 hb (by decide) (by rw [b70]; exact hk) h12 ?_
      rw [up_ne (by decide), a71]; exact this
  refine y_105 hE1 (by rw [b70]; omega) (fun hb => by intro e; have := hS hb; rw [e] at this; exact this rfl) (fun h12 hE2 => ?_) (fun hb h12 => ?_)
  rotate_left
  · have hsp := SQ_bf hE1 hb (k := 2) (by decide) (QA_u6 (M := Mq) (i := 15) (v := o + 1) (by decide))
    refine hQ hb _ (XA_tr (XF_XA P1) (XA_tr (XF_XA oX_XF) (XF_XA fl_XF))) fun Kv Qtq hk9 => preA _ (.inr ⟨hb, h12, by rw [up_ne (by decide), a71]⟩) _ _ fun V hV hW => q_270s hsp.1 (q_227s hsp.1 ?_)
    rw [if_neg (by decide)]
    exact rv_i (hk9 _ hsp)
  rw [gS_e h12, Option.bind_some] at hS
  have dS1 : ∀ pt, dcT (Mx 70) pt o (a, j) = (ES (Mx 70) 0 (o + 1) (a + 1)).bind fun a2 => (tS (Mx 70) 259 a2).bind fun a3 => (LQ (dcT1 (Mx 70) pt) ((a3, j), 0)).bind (elT (Mx 70) pt) := fun pt' => by have := dS pt'; rw [gS_e h12, Option.bind_some] at this; exact this
  clear dS
  have hT2 : Tks (nX_ (up_ Ma 1 6 (o + 1))) (nx_ (up_ Mq 6 15 (o + 1))) := Tks_c nX_XF nx_QF hT1
  have hV2 : VT (nX_ (up_ Ma 1 6 (o + 1))) (nx_ (up_ Mq 6 15 (o + 1))) := VT_c (XF_tr oX_XF nX_XF) (QF_tr oq_QF nx_QF) hVa
  have x2F : XF Mx (nX_ (up_ Ma 1 6 (o + 1))) := XF_tr P1 (XF_tr oX_XF nX_XF)
  have q2D : QD Mq (nx_ (up_ Mq 6 15 (o + 1))) := QD_tr (QD_u6 (by decide)) (QN_QD QN_nx)
  have c70 : nX_ (up_ Ma 1 6 (o + 1)) 70 = Mx 70 := by rw [nX_ne (by decide)]; exact b70
  have c71 : nX_ (up_ Ma 1 6 (o + 1)) 71 = Mx 71 := by rw [nX_ne (by decide), up_ne (by decide)]; exact a71
  have c53 : nX_ (up_ Ma 1 6 (o + 1)) 5 = Ma 5 := by rw [nX_ne (by decide), up_ne (by decide)]
  have c142 : nX_ (up_ Ma 1 6 (o + 1)) 142 = Ma 142 := by rw [nX_ne (by decide), up_ne (by decide)]
  have c17 : nX_ (up_ Ma 1 6 (o + 1)) 1 7 = Mx 1 7 := by rw [nX_1 (by decide), up_off (by decide), P2]
  have d6 : ∀ i : Int, i ≠ 12 → i ≠ 15 → nx_ (up_ Mq 6 15 (o + 1)) 6 i = Mq 6 i := fun i h1 h2 => by rw [nx_6 h1, up_off h2]
  have dr : ∀ r : Nat, r ≠ 6 → nx_ (up_ Mq 6 15 (o + 1)) r = Mq r := fun r h => by rw [nx_ne h, up_ne h]
  have pre1 := preA _ (.inl ⟨h12, rfl⟩)
  generalize nX_ (up_ Ma 1 6 (o + 1)) = M2 at *
  generalize nx_ (up_ Mq 6 15 (o + 1)) = N2 at *
  refine Tr_le (d := 9 * m + 13) (by omega) ?_
  rw [hE2.2.1]
  refine x_146w (dq := dq + 2) (n := m) (by omega) (by omega) hT2 hV2 hE2 (by rw [d6 104 (by decide) (by decide)]; omega) (fun hb => by rw [c70]; intro e; have := hS hb; rw [e] at this; exact this rfl) (fun M4 N4 a4 s t bd hWR hES e7 hbd hs hq4 => ?_) (fun hb Mx' hx hq => ?_)
  rotate_left
  · refine hQ hb Mx' (XA_tr (XF_XA x2F) (XF_XA hx)) fun Kv Qtq hk9 => pre1 _ _ fun V hV hW => hq _ _ fun M' g1 g2 g3 g4 g5 => q_227s g1 ?_
    rw [if_neg (by decide)]
    exact rv_i (hk9 _ ⟨g1, g2, g3, g4, QA_tr (QD_QA q2D) (QF_QA g5)⟩)
  rw [c70] at hES
  rw [hES, Option.bind_some] at hS
  have dS2 : ∀ pt, dcT (Mx 70) pt o (a, j) = (tS (Mx 70) 259 a4).bind fun a3 => (LQ (dcT1 (Mx 70) pt) ((a3, j), 0)).bind (elT (Mx 70) pt) := fun pt' => by have := dS1 pt'; rw [hES, Option.bind_some] at this; exact this
  clear dS1
  obtain ⟨w1, w2, w3, w4, w5, w6, w7, w8, w9, w10⟩ := hWR
  have hT4 : Tks M4 N4 := Tks_a (XF_XA w2) (QG_QA w3) hT2
  have m70 : M4 70 = Mx 70 := by rw [XF_70 w2 (by decide) (by decide) (by decide)]; exact c70
  have m71 : M4 71 = Mx 71 := by rw [XF_70 w2 (by decide) (by decide) (by decide)]; exact c71
  have hg1 : gd_ Mx (a + 1) := gd_c c70.symm hE2.1
  have hp1 := tk_p hT hg1
  have e108 : N4 6 108 = Mx 71 (a + 1) := by rw [e7.2.1, c71]
  obtain ⟨kk, hkk⟩ : ∃ kk : Int, kk = if bd = 0 ∧ t = 3 then 5 else 0 := ⟨_, rfl⟩
  obtain ⟨asked, hask⟩ : ∃ asked : Int, asked = if bd = 0 ∧ t ≠ 3 then t else 0 := ⟨_, rfl⟩
  have hkc : kk = 0 ∨ (3 ≤ kk ∧ kk ≤ 6) := by rw [hkk]; split <;> omega
  obtain ⟨E1, E2, E3⟩ := ER_m (k := kk) (tk := a + 1) w4 hkc (by rw [m71]; exact hp1) (by have := w4.2.2.2.2.2.2.2.2.2.2.2.2.1; omega)
  rw [m71] at E1 E3
  have pre2 : ∀ (Kv : mm_ → Prop) (Qtq : qt_), (∀ V : vv_, Cl_ wd0 (Tr_ wd0 pg0 (dq + 14)) V (rv_ Kv) Qtq m_269 → Wk_ V → V 76 [rr 6, ii (Mx 71 a), ii (Mq 6 104), ii asked, none] [] (Qn_ N4 b kk (Mx 71 (a + 1)))) → Tr_ wd0 pg0 (dq + 15) 269 [.inr (.inr 6)] Mq (rv_ Kv) Qtq := by
    intro Kv Qtq hq
    refine pre1 _ _ fun V hV hW => hq4 _ _ (q_227g (ER_goq w4) ?_)
    rw [if_pos rfl, e7.1, e7.2.2, e108, d6 104 (by decide) (by decide)]
    have := hq V hV hW
    have n16 : N4 6 16 = b := w4.2.2.2.2.2.2.2.1
    intro _
    rcases hbd with hb0 | hb1
    · rw [if_pos hb0]
      intro _
      rw [if_pos hb0]
      by_cases c : t = 3
      · rw [if_pos c]
        rw [if_pos ⟨hb0, c⟩] at hkk
        rw [if_neg (by omega)] at hask
        rw [hask] at this
        refine q_236 ?_
        have e9 : Qn_ N4 b kk (Mx 71 (a + 1)) = nt_ N4 5 (Mx 71 (a + 1)) := by
          unfold Qn_
          rcases h01 with hb | hb
          · rw [if_pos (.inl hb)]; unfold nt_; rw [if_pos (by omega)]
          · rw [if_neg (by omega), hkk]
        rw [e9] at this; exact this
      · rw [if_neg c]
        rw [if_neg (by omega)] at hkk
        rw [if_pos ⟨hb0, c⟩] at hask
        rw [hask] at this
        have e9 : Qn_ N4 b kk (Mx 71 (a + 1)) = N4 := by unfold Qn_; rw [if_pos (.inr hkk)]
        rw [e9] at this; exact this
    · rw [if_neg (by omega)]
      intro _
      rw [if_neg (by omega)]
      rw [if_neg (by omega)] at hkk
      rw [if_neg (by omega)] at hask
      rw [hask] at this
      have e9 : Qn_ N4 b kk (Mx 71 (a + 1)) = N4 := by unfold Qn_; rw [if_pos (.inr hkk)]
      rw [e9] at this; exact this
  -- X's note
  have xk : b = 1 → (kk = 5 ↔ s = 2) := fun hb => by
    have q := hs hb
    rcases hbd with h0 | h1
    · have := q.1 h0
      rw [hkk]
      by_cases c : t = 3
      · rw [if_pos ⟨h0, c⟩]; omega
      · rw [if_neg (fun e => c e.2)]; omega
    · have := q.2 h1
      rw [hkk, if_neg (by omega)]; omega
  have z70 : Xn_ M4 b kk (a + 1) 70 = Mx 70 := by rw [Xn_r (by decide)]; exact m70
  have z71 : Xn_ M4 b kk (a + 1) 71 = Mx 71 := by rw [Xn_r (by decide)]; exact m71
  have z53 : Xn_ M4 b kk (a + 1) 5 = M4 5 := Xn_r (by decide)
  have z142 : Xn_ M4 b kk (a + 1) 142 = M4 142 := Xn_r (by decide)
  have zXF : XF Mx (Xn_ M4 b kk (a + 1)) := XF_tr x2F (XF_tr w2 Xn_XF)
  have zQN : QN N4 (Qn_ N4 b kk (Mx 71 (a + 1))) := QN_Qn
  have zT : Tks (Xn_ M4 b kk (a + 1)) (Qn_ N4 b kk (Mx 71 (a + 1))) := Tks_c Xn_XF Qn_QF hT4
  have z13 : b = 1 → Qn_ N4 b kk (Mx 71 (a + 1)) 6 13 = 0 → kk = 0 ∧ N4 6 13 = 0 := E3
  have hsH := hid_mk hs
  have hbdH := hid_mk hbd
  have hkkH := hid_mk hkk
  have haskH := hid_mk hask
  have P4H := hid_mk P4
  have z13H := hid_mk z13
  have xkH := hid_mk xk
  have hkcH := hid_mk hkc
  have h01H := hid_mk h01
  have w7a := w7.1
  have w7b := w7.2.1
  have w7c := hid_mk w7.2.2
  clear hs hbd hkk hask P4 z13 xk hkc h01 u3 q5 q6 w7 preA pre1
  have main : Tr_ wd0 pg0 (9 * m + 24) 121 [.inr (.inr 1), .inl 59] (Xn_ M4 b kk (a + 1)) (rv_ fun M5 => V 50 [rr 1, ii (a + 1), ii s, ii 0, ii (-1), ii 1, none, none, none, none, none, none, none] [] M5) Qt := by
    generalize Xn_ M4 b kk (a + 1) = M5 at *
    generalize Qn_ N4 b kk (Mx 71 (a + 1)) = N5 at *
    refine y_121 E1 (by decide) (fun hb => by rw [z70]; intro e; have e' : tS (Mx 70) 259 a4 = none := e; have := hS hb; rw [e'] at this; exact this rfl) (fun k1 h13 hE6 => ?_) (fun hb k1 h13 => ?_) (fun hb k1 => ?_)
    rotate_left
    · have hsp := SQ_bf E1 hb (k := 2) (by decide) (QA_tr (QD_QA q2D) (QA_tr (QG_QA w3) (QF_QA (QN_QF zQN))))
      refine hQ hb _ (XA_tr (XF_XA zXF) (XF_XA fl_XF)) fun Kv Qtq hk9 => pre2 _ _ fun V hV hW => b_269_76 (Tr_mono _) hV hW _ _ _ _ (j_244r zT E1 hb (by decide) k1 h13 (q_227s hsp.1 ?_))
      rw [if_neg (by decide)]
      exact rv_i (hk9 _ hsp)
    · have hsp := SQ_bf E1 hb (k := 1) (by decide) (QA_tr (QD_QA q2D) (QA_tr (QG_QA w3) (QF_QA (QN_QF zQN))))
      refine hQ hb _ (XA_tr (XF_XA zXF) (XF_XA fl_XF)) fun Kv Qtq hk9 => pre2 _ _ fun V hV hW => b_269_76 (Tr_mono _) hV hW _ _ _ _ (j_244w zT E1 hb (by decide) k1 (q_227s hsp.1 ?_))
      rw [if_neg (by decide)]
      exact rv_i (hk9 _ hsp)
    have k1' : Mx 70 a4 = 259 := by rw [← z70]; exact k1
    rw [tS_e k1' h13, Option.bind_some] at hS
    have dS3 : ∀ pt, dcT (Mx 70) pt o (a, j) = (LQ (dcT1 (Mx 70) pt) ((a4 + 1, j), 0)).bind (elT (Mx 70) pt) := fun pt' => by have := dS2 pt'; rw [tS_e k1' h13, Option.bind_some] at this; exact this
    clear dS2 hS
    have n6 : ∀ i : Int, i ≠ 12 → i ≠ 13 → i ≠ 14 → i ≠ 15 → i ≠ 104 → i ≠ 107 → i ≠ 108 → i ≠ 109 → i ≠ 112 → i ≠ 116 → i ≠ 118 → nx_ N5 6 i = Mq 6 i := fun i h1 h2 h3 h4 h5 h6 h7 h8 h9 h10 h11 => by rw [nx_6 h1, zQN.2 i h1 h2 h3, w3.2 i h1 h2 h3 h4 h5 h6 h7 h8 h9 h10 h11, d6 i h1 h4]
    have nr : ∀ r : Nat, r ≠ 6 → r < 227 → nx_ N5 r = Mq r := fun r h1 h2 => by rw [nx_ne h1, zQN.1 r h1, w3.1 r (by simp only [List.mem_cons, List.not_mem_nil, or_false, not_or]; omega), dr r h1]
    have n75 : nx_ N5 6 75 = Mq 6 75 := n6 75 (by decide) (by decide) (by decide) (by decide) (by decide) (by decide) (by decide) (by decide) (by decide) (by decide) (by decide)
    have n102 : nx_ N5 6 102 = Mq 6 102 := n6 102 (by decide) (by decide) (by decide) (by decide) (by decide) (by decide) (by decide) (by decide) (by decide) (by decide) (by decide)
    have n90 : nx_ N5 6 90 = Mq 6 90 := n6 90 (by decide) (by decide) (by decide) (by decide) (by decide) (by decide) (by decide) (by decide) (by decide) (by decide) (by decide)
    have n104 : nx_ N5 6 104 = N4 6 104 := by rw [nx_6 (by decide), zQN.2 104 (by decide) (by decide) (by decide)]
    have nF : ∀ i, 0 ≤ i → i < N4 6 104 → nx_ N5 227 i = N4 227 i ∧ nx_ N5 228 i = N4 228 i := fun i _ _ => by rw [nx_ne (by decide), nx_ne (by decide), zQN.1 227 (by decide), zQN.1 228 (by decide)]; exact ⟨rfl, rfl⟩
    rw [d6 104 (by decide) (by decide)] at w5 w6 w10
    have hR1 := hD_QD (N := nx_ N5) (p := Mx 71 a) (e := Mq 6 104) (q := asked) (dd := Mq 6 102)
    have f53 : nX_ M5 5 3 = M4 5 3 := by rw [nX_ne (by decide), z53]
    have f142 : nX_ M5 142 = M4 142 := by rw [nX_ne (by decide), z142]
    have v53 : M2 5 3 = Ma 5 3 := by rw [c53]
    have w8' : ∀ i, 0 ≤ i → i < Ma 5 3 → M4 142 i = Ma 142 i := fun i x y => by rw [w8 i x (by omega), c142]
    have fl7 : nX_ M5 1 7 = M5 1 7 := nX_1 (by decide)
    have hkO : Mq 6 102 < 14 := by omega
    refine hK _ (hD_ (nx_ N5) (Mx 71 a) (Mq 6 104) asked (Mq 6 102)) (a4 + 1) (a + 1) s ⟨?_, ?_, ?_, ?_, ?_, ?_, ?_, ?_⟩ (XF_tr zXF nX_XF) dS3 (fun Kv Qtq hq => pre2 _ _ fun V hV hW => b_269_76 (Tr_mono _) hV hW _ _ _ _ (j_244t zT E1 (by decide) k1 h13 (q_227g (ER_goq hE6) ?_)))
    · refine PRD_s (PRC_D (PRC_rf hps)) (ER_Q hE6 (hD_6 (by decide) (by decide)) (hD_6 (by decide) (by decide)) (hD_6 (by decide) (by decide)) (hD_6 (by decide) (by decide)) (hD_6 (by decide) (by decide))) (XF_tr zXF nX_XF) (QD_tr q2D (QD_tr (QG_QD w3) (QD_tr (QN_QD zQN) (QD_tr (QN_QD QN_nx) hR1)))) ⟨fun i x y => ?_, fun r i hr x y => ?_, fun i x y => ?_, fun i x y => ?_, fun r i hr x y => ?_, fun r i hr x y => ?_⟩ ⟨by omega, by rw [hD_75, n75]; omega, by rw [hD_6 (by decide) (by decide), n104]; omega, ⟨by rw [f53]; omega, by rw [f53]; omega, fun hb => by rw [f53, hid_un w7c hb, v53, P3 hb]⟩, by rw [hD_6 (by decide) (by decide), n90]; omega, by omega⟩ (by omega)
      · rw [f142, w8' i x (by omega), P5 i y]
      · rw [hD_o hr (by rw [n75]; omega), nr r (fun e => absurd hr (by rw [e]; decide)) (by unfold opL at hr; simp only [List.mem_cons, List.not_mem_nil, or_false] at hr; omega)]
      · rw [hD_r (by decide) (by decide), nr 209 (by decide) (by decide)]
      · rw [hD_r (by decide) (by decide), hD_r (by decide) (by decide), (nF i x (by omega)).1, (nF i x (by omega)).2, (w6 i x y).1, (w6 i x y).2, dr 227 (by decide), dr 228 (by decide)]; exact ⟨rfl, rfl⟩
      · have hb : r ≠ 6 ∧ 210 < r ∧ r < 220 := by unfold rgR at hr; simp only [List.mem_cons, List.not_mem_nil, or_false] at hr; omega
        rw [hD_r hb.1 (.inr (.inl hb.2)), nr r hb.1 (by omega)]
      · rw [hD_d hr (by omega), nr r (fun e => absurd hr (by rw [e]; decide)) (by unfold dsR at hr; simp only [List.mem_cons, List.not_mem_nil, or_false] at hr; omega)]
    · exact hD_102
    · have hd := hD_dd (N := nx_ N5) (p := Mx 71 a) (e := Mq 6 104) (q := asked) (dd := Mq 6 102)
      refine ⟨by rw [hd.1]; exact n75, hd.2.1, by decide, ⟨by rw [hd.2.2.1]; decide, by rw [hd.2.2.1, hD_6 (by decide) (by decide), n90]; omega⟩, fun h => by rw [hd.2.2.1] at h; omega, fun hb => ?_, hd.2.2.2.2.2.1, hd.2.2.2.2.2.2, .inr rfl⟩
      rw [hd.2.2.2.1, hid_un haskH]
      have q := hid_un hsH hb
      rcases hid_un hbdH with h0 | h1
      · have := q.1 h0
        by_cases c : t = 3
        · rw [if_neg (fun e => e.2 c), if_pos (by omega)]; decide
        · rw [if_pos ⟨h0, c⟩, if_neg (by omega)]; omega
      · have := q.2 h1
        rw [if_neg (by omega), if_neg (by omega)]; omega
    · rw [hD_75, n75]; omega
    · have := (hD_k (N := nx_ N5) (p := Mx 71 a) (e := Mq 6 104) (q := asked) (dd := Mq 6 102) trivial).2.2.2
      rw [n75] at this; exact this
    · exact hD_dd.2.2.2.2.1
    · exact fun _ => rfl
    · intro hb h0
      have hkf := hD_k (N := nx_ N5) (p := Mx 71 a) (e := Mq 6 104) (q := asked) (dd := Mq 6 102) trivial
      rw [n75] at hkf
      have h5 : N5 6 13 = 0 := by rw [hD_6 (by decide) (by decide), nx_6 (by decide)] at h0; exact h0
      obtain ⟨kk0, h4⟩ := hid_un z13H hb h5
      obtain ⟨h2, t', ht', hx⟩ := w10 hb h4
      rw [d6 13 (by decide) (by decide)] at h2
      have hbd0 : bd = 0 := by
        rcases hid_un hbdH with h | h
        · exact h
        · exact absurd h4 ((hid_un hsH hb).2 h).2
      have hsq := (hid_un hsH hb).1 hbd0
      have ht3 : t ≠ 3 := fun e => by have hkk := hid_un hkkH; rw [if_pos ⟨hbd0, e⟩] at hkk; omega
      have ett : t' = t := by have := ht' (by omega); omega
      rw [ett, d6 61 (by decide) (by decide)] at hx
      have p4 := hid_un P4H hb
      rw [len] at p4
      obtain ⟨s1, s2, _⟩ := p4.2
      have eMa : Ma 5 3 = Mx 5 3 + 2 := by omega
      rw [v53, eMa] at hx
      have le := EXP_le hx
      refine ⟨h2, fun _ => 0, fun _ => False, M4 5 3, t, fun k x y => ?_, fun k hk => hk.elim, ⟨by omega, by omega, by rw [f53]; omega, hkf.1⟩, fun M1 hA => ?_, ⟨hD_dd.2.2.2.2.1, rfl⟩, fun _ k hk => hk.elim, fun l x y => ?_, ?_⟩
      · rw [hD_75, n75] at y; omega
      · have hA' : ∀ i, Mx 5 3 ≤ i → i < M4 5 3 → M1 142 i = M4 142 i := fun i x y => by
          rw [hA i x (by rw [f53]; exact y) (fun k hk => hk.elim), f142]
        refine ⟨⟨?_, ?_, ?_⟩, .inl ⟨by rw [f53], hD_dd.2.2.1⟩, fun k x y => ?_⟩
        · rw [hA' _ (by omega) (by omega), w8' _ (by omega) (by omega)]; simpa using s2
        · rw [hA' _ (by omega) (by omega), w8' _ (by omega) (by omega), hkf.2.1]; exact s1
        · rw [hkf.2.2.1]
          refine EXP_c hx (fun i x y => hA' i (by omega) y) (fun i x y => ?_) ?_ (by rw [hD_6 (by decide) (by decide), n104]; omega)
          · rw [hD_r (by decide) (by decide), hD_r (by decide) (by decide)]; exact nF i (by omega) y
          · refine ⟨?_, ?_, ?_, ?_, ?_⟩ <;> rw [hD_r (by decide) (by decide), nx_ne (by decide), zQN.1 _ (by decide)]
        · rw [hD_75, n75] at y; omega
      · rw [nX_1 (by decide)] at y
        have : M5 1 19 = Mx 1 19 := zXF.2.1 19 (by decide) (by decide) (by decide) (by decide) (by decide)
        omega
      · have y21 : nX_ M5 1 21 = Mx 1 21 := by rw [nX_1 (by decide)]; exact zXF.2.1 21 (by decide) (by decide) (by decide) (by decide) (by decide)
        have y23 : nX_ M5 1 23 = Mx 1 23 := by rw [nX_1 (by decide)]; exact zXF.2.1 23 (by decide) (by decide) (by decide) (by decide) (by decide)
        refine ⟨fun q x y => ?_, fun q x y => ?_⟩
        · rw [y21]
          refine ⟨fun h => .inl h, ?_⟩
          rintro (h | ⟨k, hk, h1, h2⟩)
          · exact h
          · rw [hD_75, n75] at hk
            rw [show k = Mq 6 75 by omega, hkf.1] at h1; omega
        · rw [y23]
          refine ⟨fun h => .inl h, ?_⟩
          rintro (h | ⟨k, hk, h1, h2⟩)
          · exact h
          · rw [hD_75, n75] at hk
            rw [show k = Mq 6 75 by omega, hkf.1] at h1; omega
    · rw [if_pos rfl]
      refine q_266 (by rw [n75]; omega) (by rw [n75]; omega) ?_
      have g102 : em_ (nx_ N5) 6 (Mx 71 a) 6 102 = Mq 6 102 := by rw [em_6 (by decide)]; exact n102
      rw [g102, w32_id (by omega) (by omega)]
      have b14 : 0 ≤ Mq 6 102 ∧ Mq 6 102 < 14 := by omega
      refine ⟨by rw [n75]; omega, b14, b14, b14, b14, b14, ⟨b14, .inl rfl⟩, ⟨b14, .inr rfl⟩, ?_⟩
      exact Tr_rv (Tr_le (by omega) hq)
  clear w10
  intro _
  have y8 := w4.2.2.2.2.2.2.1
  unfold Xn_ at main
  by_cases c : M4 1 8 = 0
  · rw [if_pos c]; rw [if_pos (.inl (by rw [← y8]; exact c))] at main; exact main
  · rw [if_neg c]
    have b1 : b = 1 := (hid_un h01H).resolve_left (fun e => c (by rw [y8]; exact e))
    have q := hid_un xkH b1
    by_cases c2 : s = 2
    · rw [if_pos c2]
      have k5 := q.mpr c2
      rw [if_neg (fun e => by
        rcases e with e | e
        · rw [b1] at e; exact absurd e (by decide)
        · rw [k5] at e; exact absurd e (by decide)), k5] at main
      exact x_116 hg1.1 (by have h9 := hg1.2.1; clear main; omega) (ER_fl w4).1 (ER_fl w4).2 main
    · rw [if_neg c2]
      have k0 : kk = 0 := by
        have hkk := hid_un hkkH
        by_cases c3 : bd = 0 ∧ t = 3
        · rw [if_pos c3] at hkk; exact absurd (q.mp hkk) c2
        · rw [if_neg c3] at hkk; exact hkk
      rw [if_pos (.inr k0)] at main; exact main
end DH
end T145_dh
