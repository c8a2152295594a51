section T145_dh
/-! a decide: its head -/
def LMT (M : mm_) : Int → Int → Bool := fun j t => decide (0 ≤ j ∧ j < M 128 (M 1 18) ∧ M 62 (10 * M 1 18 + j) = t)
def LOK (b : Int) (lm : Int → Int → Bool) (Mx M' : mm_) : Prop := (b = 0 → ∀ j, lc_ b Mx ≤ j → j < lc_ b M' → lm j (M' 62 (10 * Mx 1 18 + j)) = true) ∧ (b = 1 → lm = LMT Mx)
/-- what is said of a part with n brackets still to be opened -/
def SPART [Inhabited gh_] (dq n : Nat) : Prop := ∀ (b F : Int) (Mx Mq : mm_) (a me st mk : Int) (K : Int → mm_ → Prop) (Qt : qt_), PS b F Mx Mq a (12 - (n : Int)) me → Mq 6 103 = 0 → (b = 1 → PTj (Mx 70) (LMT Mx) n (a, lc_ b Mx) ≠ none)
  → (∀ F' Mx' Mq' a' v c, PRC b F F' Mx Mq Mx' Mq' a a' (12 - (n : Int)) (12 - (n : Int)) me → SEM b Mx Mq Mx' Mq' v → (v = 0 ∨ v = 1) → Mq' 6 103 = v → ((c = 1 ∧ v = 1) ∨ (c = 0 ∧ ¬ isA (Mx 70) a' ∧ ¬ isL (Mx 70) a')) → (∀ lm, LOK b lm Mx Mx' → PTj (Mx 70) lm n (a, lc_ b Mx) = some (a', lc_ b Mx')) → RT (dq + 15) st mk me 0 Mq c Mq' → K v Mx')
  → (b = 0 → ∀ Mx', XA Mx Mx' → STq (dq + 15) st mk me 0 Mq Mx' → Qt 8 Mx') → Tr_ wd0 pg0 (9 * n + 19) 133 [.inr (.inr 1)] Mx (ri_ K) Qt
/-- between two parts of a decide -/
def DHS [Inhabited gh_] (b F F' : Int) (Mx Mq M N : mm_) (a0 a o me x2 x3 x4 x5 : Int) (mm : Nat) : Prop :=
  PRD b F F' Mx Mq M N a0 a o (o + 1) me ∧ N 6 102 = Mq 6 102 + 1
  ∧ (N 220 (Mq 6 102) = Mq 6 75 ∧ N 221 (Mq 6 102) = x3 ∧ (0 ≤ x3 ∧ x3 ≤ 8) ∧ (-1 ≤ N 222 (Mq 6 102) ∧ N 222 (Mq 6 102) < N 6 90) ∧ (0 ≤ N 222 (Mq 6 102) → Mq 6 90 ≤ N 222 (Mq 6 102)) ∧ (b = 1 → N 223 (Mq 6 102) = (if x2 = 2 then -1 else x2) + 1) ∧ N 225 (Mq 6 102) = 0 ∧ N 226 (Mq 6 102) = x5 ∧ (x5 = 0 ∨ x5 = 1))
  ∧ Mq 6 75 < N 6 75 ∧ N 207 (Mq 6 75) = -1 ∧ QHO (Mq 6 75) (N 6 75) mm N (N 224 (Mq 6 102)) ∧ (b = 1 → XHO (Mx 5 3) (M 5 3) mm M x4)
  ∧ (b = 1 → N 6 13 = 0 → Mq 6 13 = 0 ∧ DSEM Mx Mq M N (Mq 6 61) x4 x5 mm)
def hD_ (N : mm_) (p e q dd : Int) : mm_ := up_ (up_ (up_ (up_ (up_ (up_ (up_ (up_ (up_ (em_ N 6 p) 205 (N 6 75) e) 220 dd (N 6 75)) 221 dd 0) 222 dd (-1)) 223 dd q) 224 dd (-1)) 225 dd 0) 226 dd 1) 6 102 (dd + 1)
/-- hidden from the arithmetic -/
def hid_ (p : Prop) : Prop := p
theorem hid_mk {p : Prop} (h : p) : hid_ p := h
theorem hid_un {p : Prop} (h : hid_ p) : p := h
section DH
variable {d dq n m : Nat} {b F : Int} {Mx Mq M N Ma : mm_} {a o x st mk me c p e q dd : Int} {K : Int → mm_ → Prop} {Kv G : mm_ → Prop} {Qt : qt_} {V : vv_}
theorem hD_6 [Inhabited gh_] {i : Int} (h : i ≠ 75) (h2 : i ≠ 102) : hD_ N p e q dd 6 i = N 6 i := by unfold hD_; rw [up_off h2, up_ne (by decide), up_ne (by decide), up_ne (by decide), up_ne (by decide), up_ne (by decide), up_ne (by decide), up_ne (by decide), up_ne (by decide), em_6 h]
theorem hD_75 [Inhabited gh_] : hD_ N p e q dd 6 75 = N 6 75 + 1 := by unfold hD_; rw [up_off (by decide), up_ne (by decide), up_ne (by decide), up_ne (by decide), up_ne (by decide), up_ne (by decide), up_ne (by decide), up_ne (by decide), up_ne (by decide), em_75]
theorem hD_102 [Inhabited gh_] : hD_ N p e q dd 6 102 = dd + 1 := by unfold hD_; rw [up_at]
theorem hD_r [Inhabited gh_] {r : Nat} (h6 : r ≠ 6) (h : r < 203 ∨ (210 < r ∧ r < 220) ∨ 226 < r ∨ r = 209) : hD_ N p e q dd r = N r := by
  unfold hD_; rw [up_ne h6, up_ne (by (clear h6; omega)), up_ne (by omega), up_ne (by omega), up_ne (by omega), up_ne (by omega), up_ne (by omega), up_ne (by omega), up_ne (by omega)]
  by_cases c : r = 209
  · rw [c, em_209]
  · exact em_r (by omega) h6
theorem hD_o [Inhabited gh_] {r : Nat} {i : Int} (hr : r ∈ opL) (h : i ≠ N 6 75) : hD_ N p e q dd r i = N r i := by
  have h6 : r ≠ 6 := fun e => absurd hr (by rw [e]; decide)
  have hb : r ≠ 220 ∧ r ≠ 221 ∧ r ≠ 222 ∧ r ≠ 223 ∧ r ≠ 224 ∧ r ≠ 225 ∧ r ≠ 226 := by unfold opL at hr; simp only [List.mem_cons, List.not_mem_nil, or_false] at hr; omega
  unfold hD_
  rw [up_ne h6, up_ne hb.2.2.2.2.2.2, up_ne hb.2.2.2.2.2.1, up_ne hb.2.2.2.2.1, up_ne hb.2.2.2.1, up_ne hb.2.2.1, up_ne hb.2.1, up_ne hb.1, up_of2 h, em_o h6 h]
theorem hD_d [Inhabited gh_] {r : Nat} {i : Int} (hr : r ∈ dsR) (h : i ≠ dd) : hD_ N p e q dd r i = N r i := by
  have h6 : r ≠ 6 := fun e => absurd hr (by rw [e]; decide)
  have h5 : r ≠ 205 := fun e => absurd hr (by rw [e]; decide)
  have hb : r < 203 ∨ 210 < r := by unfold dsR at hr; simp only [List.mem_cons, List.not_mem_nil, or_false] at hr; (clear h h6 h5; omega)
  unfold hD_
  rw [up_ne h6, up_of2 h, up_of2 h, up_of2 h, up_of2 h, up_of2 h, up_of2 h, up_of2 h, up_ne h5, em_r hb h6]
theorem hD_k [Inhabited gh_] (hd : True) : hD_ N p e q dd 203 (N 6 75) = 6 ∧ hD_ N p e q dd 204 (N 6 75) = p ∧ hD_ N p e q dd 205 (N 6 75) = e ∧ hD_ N p e q dd 207 (N 6 75) = -1 := by
  unfold hD_
  refine ⟨?_, ?_, ?_, ?_⟩
  · rw [up_ne (by decide), up_ne (by decide), up_ne (by decide), up_ne (by decide), up_ne (by decide), up_ne (by decide), up_ne (by decide), up_ne (by decide), up_ne (by decide), em_203]
  · rw [up_ne (by decide), up_ne (by decide), up_ne (by decide), up_ne (by decide), up_ne (by decide), up_ne (by decide), up_ne (by decide), up_ne (by decide), up_ne (by decide), em_204]
  · rw [up_ne (by decide), up_ne (by decide), up_ne (by decide), up_ne (by decide), up_ne (by decide), up_ne (by decide), up_ne (by decide), up_ne (by decide), up_at]
  · rw [up_ne (by decide), up_ne (by decide), up_ne (by decide), up_ne (by decide), up_ne (by decide), up_ne (by decide), up_ne (by decide), up_ne (by decide), up_ne (by decide), em_207]
theorem hD_dd [Inhabited gh_] : hD_ N p e q dd 220 dd = N 6 75 ∧ hD_ N p e q dd 221 dd = 0 ∧ hD_ N p e q dd 222 dd = -1 ∧ hD_ N p e q dd 223 dd = q ∧ hD_ N p e q dd 224 dd = -1 ∧ hD_ N p e q dd 225 dd = 0 ∧ hD_ N p e q dd 226 dd = 1 := by
  unfold hD_
  refine ⟨?_, ?_, ?_, ?_, ?_, ?_, ?_⟩
  · rw [up_ne (by decide), up_ne (by decide), up_ne (by decide), up_ne (by decide), up_ne (by decide), up_ne (by decide), up_ne (by decide), up_at]
  · rw [up_ne (by decide), up_ne (by decide), up_ne (by decide), up_ne (by decide), up_ne (by decide), up_ne (by decide), up_at]
  · rw [up_ne (by decide), up_ne (by decide), up_ne (by decide), up_ne (by decide), up_ne (by decide), up_at]
  · rw [up_ne (by decide), up_ne (by decide), up_ne (by decide), up_ne (by decide), up_at]
  · rw [up_ne (by decide), up_ne (by decide), up_ne (by decide), up_at]
  · rw [up_ne (by decide), up_ne (by decide), up_at]
  · rw [up_ne (by decide), up_at]
theorem hD_QD [Inhabited gh_] : QD N (hD_ N p e q dd) := by
  unfold hD_
  exact QD_tr (QD_tr (QD_tr (QD_tr (QD_tr (QD_tr (QD_tr (QD_tr (QD_tr (QC_QD em_QC) (QD_ur (by decide) (by decide))) (QD_ur (by decide) (by decide))) (QD_ur (by decide) (by decide))) (QD_ur (by decide) (by decide))) (QD_ur (by decide) (by decide))) (QD_ur (by decide) (by decide))) (QD_ur (by decide) (by decide))) (QD_ur (by decide) (by decide))) (QD_u6 (by decide))
theorem QG_QD [Inhabited gh_] {M M' : mm_} (h : QG M M') : QD M M' := QC_QD (QG_QC h)
theorem QN_QD [Inhabited gh_] {M M' : mm_} (h : QN M M') : QD M M' := QC_QD (QF_QC (QN_QF h))
set_option maxHeartbeats 4000000 in
theorem y_161h [Inhabited gh_] (hn : m + 1 ≤ 12) (ho : o = 11 - (m : Int)) (hp : PS b F Mx Mq a o me) (hP : PXL b Mx Ma [Mx 71 a, 30]) (hk : Mx 70 a = 18) {pt : sj_ → Option sj_} {j : Int} (hS : b = 1 → dcT (Mx 70) pt o (a, j) ≠ none)
    (hV : Cl_ wd0 (Tr_ wd0 pg0 (9 * m + 24)) V (ri_ K) Qt m_161) (hW : Wk_ V)
    (hK : ∀ M1 N1 a1 x1 x2, DHS b F F Mx Mq M1 N1 a a1 o me x2 0 (-1) 1 0 → XF Mx M1 → (∀ pt, dcT (Mx 70) pt o (a, j) = (LQ (dcT1 (Mx 70) pt) ((a1, j), 0)).bind (elT (Mx 70) pt)) → (∀ (Kv : mm_ → Prop) (Qtq : qt_), Tr_ wd0 pg0 (dq + 13) 291 [.inr (.inr 6)] N1 (rv_ Kv) Qtq → Tr_ wd0 pg0 (dq + 15) 269 [.inr (.inr 6)] Mq (rv_ Kv) Qtq)
        → V 50 [rr 1, ii x1, ii x2, ii 0, ii (-1), ii 1, none, none, none, none, none, none, none] [] M1)
    (hQ : b = 0 → ∀ Mx', XA Mx Mx' → (∀ (Kv : mm_ → Prop) (Qtq : qt_), (∀ M', SQ Mx' Mq M' → Kv M') → Tr_ wd0 pg0 (dq + 15) 269 [.inr (.inr 6)] Mq (rv_ Kv) Qtq) → Qt 8 Mx') :
    V 0 [rr 1, none, none, none, none, none, none, none, none, none, none, none, none] [] Ma := by
  have hps := hp
  obtain ⟨⟨hT, hVT, hE0, t4, t5, t6⟩, hG, hL, hst, ⟨u1, u2, u3⟩, w0, r90, d102, msk, c19, s53⟩ := hp
  have h01 := bl01 hE0
  obtain ⟨P1, P2, P3, P4, P5, P6, P7⟩ := hP
  have len : ((([Mx 71 a, 30] : List Int).length : Nat) : Int) = 2 := rfl
  rw [len] at P7
  have st0 := (ER_st hE0).1
  have xar : ∀ r : Nat, r ≠ 1 → r ≠ 5 → r ≠ 142 → Ma r = Mx r := fun r a b c => XF_70 P1 a b c
  have hE : ER b F Ma Mq a o := by
    obtain ⟨e1, e2, e3, e4, e5, e6, e7, e8, e9, e10, e11, e12, e13, e14, e15⟩ := hE0
    exact ⟨gd_c (xar 70 (by decide) (by decide) (by decide)) e1, by rw [P2]; exact e2, e3, by rw [P2]; exact e4, e5, e6, by rw [P2]; exact e7, e8, e9, e10, by unfold NR; rw [P2]; exact e11, by rw [P2]; exact e12, by rw [P2]; exact e13, by (clear hn ho hk hS hV hW hK hQ hps hT hVT t4 t5 t6 hG hL hst u1 u2 u3 w0 r90 d102 msk c19 s53 h01 P1 P2 P3 P4 P5 len xar e1 e2 e3 e4 e5 e6 e7 e8 e9 e10 e11 e12 e13 e14 e15; lia), by (clear hn ho hk hS hV hW hK hQ hps hT hVT t4 t5 t6 hG hL hst u1 u2 u3 w0 r90 d102 msk c19 h01 P1 P2 P3 P4 P5 len st0 xar e1 e4 e5 e6 e7 e8 e9 e10 e11 e12 e13 e14 e15; lia)⟩
  have hTa : Tks Ma Mq := Tks_a (XF_XA P1) QA_rf hT
  have hVa : VT Ma Mq := VT_a (XF_XA P1) QA_rf hVT
  have a70 : Ma 70 = Mx 70 := xar 70 (by decide) (by decide) (by decide)
  have a71 : Ma 71 = Mx 71 := xar 71 (by decide) (by decide) (by decide)
  have hae := ER_a hE0
  have oo : o ≠ 12 := by (clear hk hS hV hW hK hQ hps hT hVT hE0 t4 t5 t6 hG hL hst u1 u2 u3 w0 r90 d102 msk c19 s53 h01 P1 P2 P3 P4 P5 P6 P7 len st0 xar hE hTa hVa a70 a71 hae; omega)
  have dS : ∀ pt, dcT (Mx 70) pt o (a, j) = (gS a).bind fun a1 => (ES (Mx 70) 0 (o + 1) a1).bind fun a2 => (tS (Mx 70) 259 a2).bind fun a3 => (LQ (dcT1 (Mx 70) pt) ((a3, j), 0)).bind (elT (Mx 70) pt) := fun pt => by unfold dcT; rw [if_neg oo]
  rw [dS] at hS
  obtain ⟨q1, q2, q3, q4, q5, q6⟩ := ER_k hTa hE
  have hp0 : Mq 150 (Mq 6 12) = Mx 71 a := by rw [q2, a71]
  refine b_161_0 (Tr_mono _) hV hW Ma ?_
  refine y_118 hE (fun _ => oo) (fun ho12 hE1 => ?_) (fun _ h => absurd h oo)
  have hT1 : Tks (up_ Ma 1 6 (o + 1)) (up_ Mq 6 15 (o + 1)) := Tks_c oX_XF oq_QF hTa
  have b70 : up_ Ma 1 6 (o + 1) 70 = Mx 70 := by rw [up_ne (by decide)]; exact a70
  -- Q's 269 up to its word
  have preA : ∀ (MQ : mm_), ((a < 1200 ∧ MQ = nx_ (up_ Mq 6 15 (o + 1))) ∨ (b = 0 ∧ a = 1200 ∧ MQ = bf_ (up_ Mq 6 15 (o + 1)) 2 (Mx 71 a))) → ∀ (Kv : mm_ → Prop) (Qtq : qt_), (∀ V : vv_, Cl_ wd0 (Tr_ wd0 pg0 (dq + 14)) V (rv_ Kv) Qtq m_269 → Wk_ V → Tr_ wd0 pg0 (dq + 14) 270 [.inr (.inr 6), .inl 0] MQ (ri_ fun v1 M3 => Tr_ wd0 pg0 (dq + 14) 227 [.inr (.inr 6)] M3 (ri_ fun v2 M4 =>
     (if v2 = 0 then
      (bl_ (M4 6 109) → (if M4 6 109 = 0 then
       (bl_ (M4 6 109) → (if M4 6 109 = 0 then
        (if M4 6 107 = 3 then
         Tr_ wd0 pg0 (dq + 14) 236 [.inr (.inr 6), .inl 5, .inl (M4 6 108)] M4 (rv_ fun M5 =>
          V 76 [rr 6, ii (Mx 71 a), ii v1, ii 0, none] [] M5) Qtq
        else
         V 76 [rr 6, ii (Mx 71 a), ii v1, ii (M4 6 107), none] [] M4)
       else
        V 76 [rr 6, ii (Mx 71 a), ii v1, ii (M4 6 107), none] [] M4))
      else
       (bl_ (M4 6 109) → (if M4 6 109 = 0 then
        (if M4 6 107 = 3 then
         Tr_ wd0 pg0 (dq + 14) 236 [.inr (.inr 6), .inl 5, .inl (M4 6 108)] M4 (rv_ fun M6 =>
          V 76 [rr 6, ii (Mx 71 a), ii v1, ii 0, none] [] M6) Qtq
        else
         V 76 [rr 6, ii (Mx 71 a), ii v1, ii 0, none] [] M4)
       else
        V 76 [rr 6, ii (Mx 71 a), ii v1, ii 0, none] [] M4))))
     else
      rv_ Kv [] M4)) Qtq) Qtq) → Tr_ wd0 pg0 (dq + 15) 269 [.inr (.inr 6)] Mq (rv_ Kv) Qtq := by
    intro MQ hMQ Kv Qtq hq
    refine t_269 fun V hV hW => b_269_0 (Tr_mono _) hV hW Mq ⟨q3, ?_⟩
    have e15 := hE.2.2.2.2.1
    refine q_240g (by omega) (by (clear hk hS hK hQ hps hT hVT hE0 t4 t5 t6 hG hL hst u1 u2 u3 w0 r90 d102 msk c19 s53 h01 P1 P2 P3 P4 P5 P6 P7 len st0 xar hE hTa hVa a70 a71 hae oo dS q1 q2 q3 q4 q5 q6 hp0 ho12 hE1 hT1 b70 hMQ hq hV hW; omega)) ?_
    rw [e15, hp0]
    have := hq V hV hW
    rcases hMQ with ⟨h12, e⟩ | ⟨hb, h12, e⟩
    · rw [e] at this
      exact j_250t hT1 hE1 (by decide) (by rw [b70]; exact hk) h12 this
    · rw [e] at this
      refine j_250r hT1 hE1 hb (by decide) (by rw [b70]; exact hk) h12 ?_
      rw [up_ne (by decide), a71]; exact this
  refine y_105 hE1 (by rw [b70]; (clear hn ho hS hV hW hK hQ hps hT hVT hE0 t4 t5 t6 hG hL hst u1 u2 u3 w0 r90 d102 msk c19 s53 h01 P1 P2 P3 P4 P5 P6 P7 len st0 xar hE hTa hVa a70 a71 hae oo dS q1 q2 q3 q4 q5 q6 hp0 ho12 hE1 hT1 b70 preA; lia)) (fun hb => by intro e; have := hS hb; rw [e] at this; exact this rfl) (fun h12 hE2 => ?_) (fun hb h12 => ?_)
  rotate_left
  · have hsp := SQ_bf hE1 hb (k := 2) (by decide) (QA_u6 (M := Mq) (i := 15) (v := o + 1) (by decide))
    refine hQ hb _ (XA_tr (XF_XA P1) (XA_tr (XF_XA oX_XF) (XF_XA fl_XF))) fun Kv Qtq hk9 => preA _ (.inr ⟨hb, h12, by rw [up_ne (by decide), a71]⟩) _ _ fun V hV hW => q_270s hsp.1 (q_227s hsp.1 ?_)
    rw [if_neg (by decide)]
    exact rv_i (hk9 _ hsp)
  rw [gS_e h12, Option.bind_some] at hS
  have dS1 : ∀ pt, dcT (Mx 70) pt o (a, j) = (ES (Mx 70) 0 (o + 1) (a + 1)).bind fun a2 => (tS (Mx 70) 259 a2).bind fun a3 => (LQ (dcT1 (Mx 70) pt) ((a3, j), 0)).bind (elT (Mx 70) pt) := fun pt' => by have := dS pt'; rw [gS_e h12, Option.bind_some] at this; exact this
  clear dS
  have hT2 : Tks (nX_ (up_ Ma 1 6 (o + 1))) (nx_ (up_ Mq 6 15 (o + 1))) := Tks_c nX_XF nx_QF hT1
  have hV2 : VT (nX_ (up_ Ma 1 6 (o + 1))) (nx_ (up_ Mq 6 15 (o + 1))) := VT_c (XF_tr oX_XF nX_XF) (QF_tr oq_QF nx_QF) hVa
  have x2F : XF Mx (nX_ (up_ Ma 1 6 (o + 1))) := XF_tr P1 (XF_tr oX_XF nX_XF)
  have q2D : QD Mq (nx_ (up_ Mq 6 15 (o + 1))) := QD_tr (QD_u6 (by decide)) (QN_QD QN_nx)
  have c70 : nX_ (up_ Ma 1 6 (o + 1)) 70 = Mx 70 := by rw [nX_ne (by decide)]; exact b70
  have c71 : nX_ (up_ Ma 1 6 (o + 1)) 71 = Mx 71 := by rw [nX_ne (by decide), up_ne (by decide)]; exact a71
  have c53 : nX_ (up_ Ma 1 6 (o + 1)) 5 = Ma 5 := by rw [nX_ne (by decide), up_ne (by decide)]
  have c142 : nX_ (up_ Ma 1 6 (o + 1)) 142 = Ma 142 := by rw [nX_ne (by decide), up_ne (by decide)]
  have c17 : nX_ (up_ Ma 1 6 (o + 1)) 1 7 = Mx 1 7 := by rw [nX_1 (by decide), up_off (by decide), P2]
  have d6 : ∀ i : Int, i ≠ 12 → i ≠ 15 → nx_ (up_ Mq 6 15 (o + 1)) 6 i = Mq 6 i := fun i h1 h2 => by rw [nx_6 h1, up_off h2]
  have dr : ∀ r : Nat, r ≠ 6 → nx_ (up_ Mq 6 15 (o + 1)) r = Mq r := fun r h => by rw [nx_ne h, up_ne h]
  have pre1 := preA _ (.inl ⟨h12, rfl⟩)
  generalize nX_ (up_ Ma 1 6 (o + 1)) = M2 at *
  generalize nx_ (up_ Mq 6 15 (o + 1)) = N2 at *
  refine Tr_le (d := 9 * m + 13) (by omega) ?_
  rw [hE2.2.1]
  refine x_146w (dq := dq + 2) (n := m) (by (clear hk hS hV hW hK hQ hps hT hVT hE0 t4 t5 t6 hG hL hst u1 u2 u3 w0 r90 d102 msk c19 s53 h01 P1 P2 P3 P4 P5 P6 P7 len st0 xar hE hTa hVa a70 a71 hae oo q1 q2 q3 q4 q5 q6 hp0 ho12 hE1 hT1 b70 h12 dS1 x2F c70 c71 c53 c142 c17 preA q2D d6 dr pre1 hE2 hT2 hV2; lia)) (by (clear hn hk hS hV hW hK hQ hps hT hVT hE0 t4 t5 t6 hG hL hst u1 u2 u3 w0 r90 d102 msk c19 s53 h01 P1 P2 P3 P4 P5 P6 P7 len st0 xar hE hTa hVa a70 a71 hae oo q1 q2 q3 q4 q5 q6 hp0 ho12 hE1 hT1 b70 h12 dS1 x2F c70 c71 c53 c142 c17 preA q2D d6 dr pre1 hE2 hT2 hV2; lia)) hT2 hV2 hE2 (by rw [d6 104 (by decide) (by decide)]; (clear hn ho hk hS hV hW hK hQ hps hT hVT hE0 t4 t6 hG hL hst u1 u2 u3 w0 r90 d102 msk c19 s53 h01 P1 P2 P3 P4 P5 P6 P7 len st0 xar hE hTa hVa a70 a71 oo q1 q2 q3 q4 q5 q6 hp0 ho12 hE1 hT1 b70 dS1 x2F c70 c71 c53 c142 c17 preA q2D d6 dr pre1 hE2 hT2 hV2; lia)) (fun hb => by rw [c70]; intro e; have := hS hb; rw [e] at this; exact this rfl) (fun M4 N4 a4 s t bd hWR hES e7 hbd hs hq4 => ?_) (fun hb Mx' hx hq => ?_)
  rotate_left
  · refine hQ hb Mx' (XA_tr (XF_XA x2F) (XF_XA hx)) fun Kv Qtq hk9 => pre1 _ _ fun V hV hW => hq _ _ fun M' g1 g2 g3 g4 g5 => q_227s g1 ?_
    rw [if_neg (by decide)]
    exact rv_i (hk9 _ ⟨g1, g2, g3, g4, QA_tr (QD_QA q2D) (QF_QA g5)⟩)
  rw [c70] at hES
  rw [hES, Option.bind_some] at hS
  have dS2 : ∀ pt, dcT (Mx 70) pt o (a, j) = (tS (Mx 70) 259 a4).bind fun a3 => (LQ (dcT1 (Mx 70) pt) ((a3, j), 0)).bind (elT (Mx 70) pt) := fun pt' => by have := dS1 pt'; rw [hES, Option.bind_some] at this; exact this
  clear dS1
  obtain ⟨w1, w2, w3, w4, w5, w6, w7, w8, w9, w10⟩ := hWR
  have hT4 : Tks M4 N4 := Tks_a (XF_XA w2) (QG_QA w3) hT2
  have m70 : M4 70 = Mx 70 := by rw [XF_70 w2 (by decide) (by decide) (by decide)]; exact c70
  have m71 : M4 71 = Mx 71 := by rw [XF_70 w2 (by decide) (by decide) (by decide)]; exact c71
  have hg1 : gd_ Mx (a + 1) := gd_c c70.symm hE2.1
  have hp1 := tk_p hT hg1
  have e108 : N4 6 108 = Mx 71 (a + 1) := by rw [e7.2.1, c71]
  obtain ⟨kk, hkk⟩ : ∃ kk : Int, kk = if bd = 0 ∧ t = 3 then 5 else 0 := ⟨_, rfl⟩
  obtain ⟨asked, hask⟩ : ∃ asked : Int, asked = if bd = 0 ∧ t ≠ 3 then t else 0 := ⟨_, rfl⟩
  have hkc : kk = 0 ∨ (3 ≤ kk ∧ kk ≤ 6) := by rw [hkk]; split <;> (clear hn ho hk hV hW hK hQ hps hT hVT hE0 t4 t5 t6 hG hL hst u1 u2 u3 w0 r90 d102 msk c19 s53 h01 P1 P2 P3 P4 P5 P6 P7 len st0 xar hE hTa hVa a70 a71 hae oo q1 q2 q3 q4 q5 q6 hp0 ho12 hE1 hT1 b70 h12 x2F c70 c71 c53 c142 c17 preA q2D d6 dr pre1 hE2 hT2 hV2 hS hES e7 hbd hs hq4 dS2 w1 w2 w3 w4 w5 w6 w7 w8 w9 w10 hT4 m70 m71 hg1 hp1 e108 hkk hask; lia)
  obtain ⟨E1, E2, E3⟩ := ER_m (k := kk) (tk := a + 1) w4 hkc (by rw [m71]; exact hp1) (by have := w4.2.2.2.2.2.2.2.2.2.2.2.2.1; (clear hn ho hk hV hW hK hQ hps hT hVT hE0 t4 t5 t6 hG hL hst u1 u2 u3 r90 d102 msk c19 s53 h01 P1 P2 P3 P4 P5 P6 P7 len st0 xar hE hTa hVa a70 a71 hae oo q1 q2 q3 q4 q5 q6 hp0 ho12 hE1 hT1 b70 h12 x2F c70 c71 c53 c142 preA q2D d6 dr pre1 hE2 hT2 hV2 hS hES e7 hbd hs hq4 dS2 w1 w2 w3 w4 w5 w6 w7 w8 w10 hT4 m70 m71 hg1 hp1 e108 hkk hask hkc; omega))
  rw [m71] at E1 E3
  have pre2 : ∀ (Kv : mm_ → Prop) (Qtq : qt_), (∀ V : vv_, Cl_ wd0 (Tr_ wd0 pg0 (dq + 14)) V (rv_ Kv) Qtq m_269 → Wk_ V → V 76 [rr 6, ii (Mx 71 a), ii (Mq 6 104), ii asked, none] [] (Qn_ N4 b kk (Mx 71 (a + 1)))) → Tr_ wd0 pg0 (dq + 15) 269 [.inr (.inr 6)] Mq (rv_ Kv) Qtq := by
    intro Kv Qtq hq
    refine pre1 _ _ fun V hV hW => hq4 _ _ (q_227g (ER_goq w4) ?_)
    rw [if_pos rfl, e7.1, e7.2.2, e108, d6 104 (by decide) (by decide)]
    have := hq V hV hW
    have n16 : N4 6 16 = b := w4.2.2.2.2.2.2.2.1
    intro _
    rcases hbd with hb0 | hb1
    · rw [if_pos hb0]
      intro _
      rw [if_pos hb0]
      by_cases c : t = 3
      · rw [if_pos c]
        rw [if_pos ⟨hb0, c⟩] at hkk
        rw [if_neg (by (clear hn ho hk hK hQ hps hT hVT hE0 t4 t5 t6 hG hL hst u1 u2 u3 w0 r90 d102 msk c19 s53 h01 P1 P2 P3 P4 P5 P6 P7 len st0 xar hE hTa hVa a70 a71 hae oo q1 q2 q3 q4 q5 q6 hp0 ho12 hE1 hT1 b70 h12 x2F c70 c71 c53 c142 c17 preA q2D d6 dr pre1 hE2 hT2 hV2 hS hES e7 hs hq4 dS2 w1 w2 w3 w4 w5 w6 w7 w8 w9 w10 hT4 m70 m71 hg1 hp1 e108 hkk hask hkc E1 E2 E3 hq hV hW this n16 hb0; lia))] at hask
        rw [hask] at this
        refine q_236 ?_
        have e9 : Qn_ N4 b kk (Mx 71 (a + 1)) = nt_ N4 5 (Mx 71 (a + 1)) := by
          unfold Qn_
          rcases h01 with hb | hb
          · rw [if_pos (.inl hb)]; unfold nt_; rw [if_pos (by (clear hn ho hk hK hQ hps hT hVT hE0 t4 t5 t6 hG hL hst u1 u2 u3 w0 r90 d102 msk c19 s53 P1 P2 P3 P4 P5 P6 P7 len st0 xar hE hTa hVa a70 a71 hae oo q1 q2 q3 q4 q5 q6 hp0 ho12 hE1 hT1 b70 h12 x2F c70 c71 c53 c142 c17 preA q2D d6 dr pre1 hE2 hT2 hV2 hS hES e7 hs hq4 dS2 w1 w2 w3 w4 w5 w6 w7 w8 w9 w10 hT4 m70 m71 hg1 hp1 e108 hkk hask hkc E1 E2 E3 hq hV hW this hb0 c; lia))]
          · rw [if_neg (by (clear hn ho hk hK hQ hps hT hVT hE0 t4 t5 t6 hG hL hst u1 u2 u3 w0 r90 d102 msk c19 s53 P1 P2 P3 P4 P5 P6 P7 len st0 xar hE hTa hVa a70 a71 hae oo q1 q2 q3 q4 q5 q6 hp0 ho12 hE1 hT1 b70 h12 x2F c70 c71 c53 c142 c17 preA q2D d6 dr pre1 hE2 hT2 hV2 hS hES e7 hs hq4 dS2 w1 w2 w3 w4 w5 w6 w7 w8 w9 w10 hT4 m70 m71 hg1 hp1 e108 hask hkc E1 E2 E3 hq hV hW this n16 hb0 c; lia)), hkk]
        rw [e9] at this; exact this
      · rw [if_neg c]
        rw [if_neg (by (clear hn ho hk hK hQ hps hT hVT hE0 t4 t5 t6 hG hL hst u1 u2 u3 w0 r90 d102 msk c19 s53 h01 P1 P2 P3 P4 P5 P6 P7 len st0 xar hE hTa hVa a70 a71 hae oo q1 q2 q3 q4 q5 q6 hp0 ho12 hE1 hT1 b70 h12 x2F c70 c71 c53 c142 c17 preA q2D d6 dr pre1 hE2 hT2 hV2 hS hES e7 hs hq4 dS2 w1 w2 w3 w4 w5 w6 w7 w8 w9 w10 hT4 m70 m71 hg1 hp1 e108 hkk hask hkc E1 E2 E3 hq hV hW this n16 hb0; lia))] at hkk
        rw [if_pos ⟨hb0, c⟩] at hask
        rw [hask] at this
        have e9 : Qn_ N4 b kk (Mx 71 (a + 1)) = N4 := by unfold Qn_; rw [if_pos (.inr hkk)]
        rw [e9] at this; exact this
    · rw [if_neg (by (clear hn ho hk hK hQ hps hT hVT hE0 t4 t5 t6 hG hL hst u1 u2 u3 w0 r90 d102 msk c19 s53 h01 P1 P2 P3 P4 P5 P6 P7 len st0 xar hE hTa hVa a70 a71 hae oo q1 q2 q3 q4 q5 q6 hp0 ho12 hE1 hT1 b70 h12 x2F c70 c71 c53 c142 c17 preA q2D d6 dr pre1 hE2 hT2 hV2 hS hES e7 hs hq4 dS2 w1 w2 w3 w4 w5 w6 w7 w8 w9 w10 hT4 m70 m71 hg1 hp1 e108 hkk hask hkc E1 E2 E3 hq hV hW this n16; lia))]
      intro _
      rw [if_neg (by omega)]
      rw [if_neg (by (clear hn ho hk hK hQ hps hT hVT hE0 t4 t5 t6 hG hL hst u1 u2 u3 w0 r90 d102 msk c19 s53 h01 P1 P2 P3 P4 P5 P6 P7 len st0 xar hE hTa hVa a70 a71 hae oo q1 q2 q3 q4 q5 q6 hp0 ho12 hE1 hT1 b70 h12 x2F c70 c71 c53 c142 c17 preA q2D d6 dr pre1 hE2 hT2 hV2 hS hES e7 hs hq4 dS2 w1 w2 w3 w4 w5 w6 w7 w8 w9 w10 hT4 m70 m71 hg1 hp1 e108 hkk hask hkc E1 E2 E3 hq hV hW this n16; lia))] at hkk
      rw [if_neg (by (clear hn ho hk hK hQ hps hT hVT hE0 t4 t5 t6 hG hL hst u1 u2 u3 w0 r90 d102 msk c19 s53 h01 P1 P2 P3 P4 P5 P6 P7 len st0 xar hE hTa hVa a70 a71 hae oo q1 q2 q3 q4 q5 q6 hp0 ho12 hE1 hT1 b70 h12 x2F c70 c71 c53 c142 c17 preA q2D d6 dr pre1 hE2 hT2 hV2 hS hES e7 hs hq4 dS2 w1 w2 w3 w4 w5 w6 w7 w8 w9 w10 hT4 m70 m71 hg1 hp1 e108 hkk hask hkc E1 E2 E3 hq hV hW this n16; lia))] at hask
      rw [hask] at this
      have e9 : Qn_ N4 b kk (Mx 71 (a + 1)) = N4 := by unfold Qn_; rw [if_pos (.inr hkk)]
      rw [e9] at this; exact this
  -- X's note
  have xk : b = 1 → (kk = 5 ↔ s = 2) := fun hb => by
    have q := hs hb
    rcases hbd with h0 | h1
    · have := q.1 h0
      rw [hkk]
      by_cases c : t = 3
      · rw [if_pos ⟨h0, c⟩]; (clear hn ho hk hV hW hK hQ hps hT hVT hE0 t4 t5 t6 hG hL hst u1 u2 u3 w0 r90 d102 msk c19 s53 h01 P1 P2 P3 P4 P5 P6 P7 len st0 xar hE hTa hVa a70 a71 hae oo q1 q2 q3 q4 q5 q6 hp0 ho12 hE1 hT1 b70 h12 x2F c70 c71 c53 c142 c17 preA q2D d6 dr pre1 hE2 hT2 hV2 hS hES e7 hs hq4 dS2 w1 w2 w3 w4 w5 w6 w7 w8 w9 w10 hT4 m70 m71 hg1 hp1 e108 hkk hask hkc E1 E2 E3 pre2 hb q h0; lia)
      · rw [if_neg (fun e => c e.2)]; (clear hn ho hk hV hW hK hQ hps hT hVT hE0 t4 t5 t6 hG hL hst u1 u2 u3 w0 r90 d102 msk c19 s53 h01 P1 P2 P3 P4 P5 P6 P7 len st0 xar hE hTa hVa a70 a71 hae oo q1 q2 q3 q4 q5 q6 hp0 ho12 hE1 hT1 b70 h12 x2F c70 c71 c53 c142 c17 preA q2D d6 dr pre1 hE2 hT2 hV2 hS hES e7 hs hq4 dS2 w1 w2 w3 w4 w5 w6 w7 w8 w9 w10 hT4 m70 m71 hg1 hp1 e108 hkk hask hkc E1 E2 E3 pre2 hb q h0; omega)
    · have := q.2 h1
      rw [hkk, if_neg (by (clear hn ho hk hV hW hK hQ hps hT hVT hE0 t4 t5 t6 hG hL hst u1 u2 u3 w0 r90 d102 msk c19 s53 h01 P1 P2 P3 P4 P5 P6 P7 len st0 xar hE hTa hVa a70 a71 hae oo q1 q2 q3 q4 q5 q6 hp0 ho12 hE1 hT1 b70 h12 x2F c70 c71 c53 c142 c17 preA q2D d6 dr pre1 hE2 hT2 hV2 hS hES e7 hs hq4 dS2 w1 w2 w3 w4 w5 w6 w7 w8 w9 w10 hT4 m70 m71 hg1 hp1 e108 hkk hask hkc E1 E2 E3 pre2 hb q this; lia))]; (clear hn ho hk hV hW hK hQ hps hT hVT hE0 t4 t5 t6 hG hL hst u1 u2 u3 w0 r90 d102 msk c19 s53 h01 P1 P2 P3 P4 P5 P6 P7 len st0 xar hE hTa hVa a70 a71 hae oo q1 q2 q3 q4 q5 q6 hp0 ho12 hE1 hT1 b70 h12 x2F c70 c71 c53 c142 c17 preA q2D d6 dr pre1 hE2 hT2 hV2 hS hES e7 hs hq4 dS2 w1 w2 w3 w4 w5 w6 w7 w8 w9 w10 hT4 m70 m71 hg1 hp1 e108 hkk hask hkc E1 E2 E3 pre2 hb q h1; lia)
  have z70 : Xn_ M4 b kk (a + 1) 70 = Mx 70 := by rw [Xn_r (by decide)]; exact m70
  have z71 : Xn_ M4 b kk (a + 1) 71 = Mx 71 := by rw [Xn_r (by decide)]; exact m71
  have z53 : Xn_ M4 b kk (a + 1) 5 = M4 5 := Xn_r (by decide)
  have z142 : Xn_ M4 b kk (a + 1) 142 = M4 142 := Xn_r (by decide)
  have zXF : XF Mx (Xn_ M4 b kk (a + 1)) := XF_tr x2F (XF_tr w2 Xn_XF)
  have zQN : QN N4 (Qn_ N4 b kk (Mx 71 (a + 1))) := QN_Qn
  have zT : Tks (Xn_ M4 b kk (a + 1)) (Qn_ N4 b kk (Mx 71 (a + 1))) := Tks_c Xn_XF Qn_QF hT4
  have z13 : b = 1 → Qn_ N4 b kk (Mx 71 (a + 1)) 6 13 = 0 → kk = 0 ∧ N4 6 13 = 0 := E3
  have hsH := hid_mk hs
  have hbdH := hid_mk hbd
  have hkkH := hid_mk hkk
  have haskH := hid_mk hask
  have P4H := hid_mk P4
  have z13H := hid_mk z13
  have xkH := hid_mk xk
  have hkcH := hid_mk hkc
  have h01H := hid_mk h01
  have w7a := w7.1
  have w7b := w7.2.1
  have w7c := hid_mk w7.2.2
  clear hs hbd hkk hask P4 z13 xk hkc h01 u3 q5 q6 w7 preA pre1
  have main : Tr_ wd0 pg0 (9 * m + 24) 121 [.inr (.inr 1), .inl 59] (Xn_ M4 b kk (a + 1)) (rv_ fun M5 => V 50 [rr 1, ii (a + 1), ii s, ii 0, ii (-1), ii 1, none, none, none, none, none, none, none] [] M5) Qt := by
    generalize Xn_ M4 b kk (a + 1) = M5 at *
    generalize Qn_ N4 b kk (Mx 71 (a + 1)) = N5 at *
    refine y_121 E1 (by decide) (fun hb => by rw [z70]; intro e; have e' : tS (Mx 70) 259 a4 = none := e; have := hS hb; rw [e'] at this; exact this rfl) (fun k1 h13 hE6 => ?_) (fun hb k1 h13 => ?_) (fun hb k1 => ?_)
    rotate_left
    · have hsp := SQ_bf E1 hb (k := 2) (by decide) (QA_tr (QD_QA q2D) (QA_tr (QG_QA w3) (QF_QA (QN_QF zQN))))
      refine hQ hb _ (XA_tr (XF_XA zXF) (XF_XA fl_XF)) fun Kv Qtq hk9 => pre2 _ _ fun V hV hW => b_269_76 (Tr_mono _) hV hW _ _ _ _ (j_244r zT E1 hb (by decide) k1 h13 (q_227s hsp.1 ?_))
      rw [if_neg (by decide)]
      exact rv_i (hk9 _ hsp)
    · have hsp := SQ_bf E1 hb (k := 1) (by decide) (QA_tr (QD_QA q2D) (QA_tr (QG_QA w3) (QF_QA (QN_QF zQN))))
      refine hQ hb _ (XA_tr (XF_XA zXF) (XF_XA fl_XF)) fun Kv Qtq hk9 => pre2 _ _ fun V hV hW => b_269_76 (Tr_mono _) hV hW _ _ _ _ (j_244w zT E1 hb (by decide) k1 (q_227s hsp.1 ?_))
      rw [if_neg (by decide)]
      exact rv_i (hk9 _ hsp)
    have k1' : Mx 70 a4 = 259 := by rw [← z70]; exact k1
    rw [tS_e k1' h13, Option.bind_some] at hS
    have dS3 : ∀ pt, dcT (Mx 70) pt o (a, j) = (LQ (dcT1 (Mx 70) pt) ((a4 + 1, j), 0)).bind (elT (Mx 70) pt) := fun pt' => by have := dS2 pt'; rw [tS_e k1' h13, Option.bind_some] at this; exact this
    clear dS2 hS
    have n6 : ∀ i : Int, i ≠ 12 → i ≠ 13 → i ≠ 14 → i ≠ 15 → i ≠ 104 → i ≠ 107 → i ≠ 108 → i ≠ 109 → i ≠ 112 → i ≠ 116 → i ≠ 118 → nx_ N5 6 i = Mq 6 i := fun i h1 h2 h3 h4 h5 h6 h7 h8 h9 h10 h11 => by rw [nx_6 h1, zQN.2 i h1 h2 h3, w3.2 i h1 h2 h3 h4 h5 h6 h7 h8 h9 h10 h11, d6 i h1 h4]
    have nr : ∀ r : Nat, r ≠ 6 → r < 227 → nx_ N5 r = Mq r := fun r h1 h2 => by rw [nx_ne h1, zQN.1 r h1, w3.1 r (by simp only [List.mem_cons, List.not_mem_nil, or_false, not_or]; (clear hn ho hk hV hW hK hQ hps hT hVT hE0 t4 t5 t6 hG hL hst u1 u2 w0 r90 d102 msk c19 s53 P1 P2 P3 P5 P6 P7 len st0 xar hE hTa hVa a70 a71 hae oo q1 q2 q3 q4 hp0 ho12 hE1 hT1 b70 h12 x2F c70 c71 c53 c142 c17 q2D d6 dr hE2 hT2 hV2 hES e7 hq4 w1 w2 w3 w4 w5 w6 w8 w9 w10 hT4 m70 m71 hg1 hp1 e108 hsH hbdH hkkH haskH P4H xkH hkcH h01H w7a w7b w7c E2 z70 z71 z53 z142 zXF E3 pre2 zQN z13H E1 zT k1 h13 hE6 k1' dS3 n6; lia)), dr r h1]
    have n75 : nx_ N5 6 75 = Mq 6 75 := n6 75 (by decide) (by decide) (by decide) (by decide) (by decide) (by decide) (by decide) (by decide) (by decide) (by decide) (by decide)
    have n102 : nx_ N5 6 102 = Mq 6 102 := n6 102 (by decide) (by decide) (by decide) (by decide) (by decide) (by decide) (by decide) (by decide) (by decide) (by decide) (by decide)
    have n90 : nx_ N5 6 90 = Mq 6 90 := n6 90 (by decide) (by decide) (by decide) (by decide) (by decide) (by decide) (by decide) (by decide) (by decide) (by decide) (by decide)
    have n104 : nx_ N5 6 104 = N4 6 104 := by rw [nx_6 (by decide), zQN.2 104 (by decide) (by decide) (by decide)]
    have nF : ∀ i, 0 ≤ i → i < N4 6 104 → nx_ N5 227 i = N4 227 i ∧ nx_ N5 228 i = N4 228 i := fun i _ _ => by rw [nx_ne (by decide), nx_ne (by decide), zQN.1 227 (by decide), zQN.1 228 (by decide)]; exact ⟨rfl, rfl⟩
    rw [d6 104 (by decide) (by decide)] at w5 w6 w10
    have hR1 := hD_QD (N := nx_ N5) (p := Mx 71 a) (e := Mq 6 104) (q := asked) (dd := Mq 6 102)
    have f53 : nX_ M5 5 3 = M4 5 3 := by rw [nX_ne (by decide), z53]
    have f142 : nX_ M5 142 = M4 142 := by rw [nX_ne (by decide), z142]
    have v53 : M2 5 3 = Ma 5 3 := by rw [c53]
    have w8' : ∀ i, 0 ≤ i → i < Ma 5 3 → M4 142 i = Ma 142 i := fun i x y => by rw [w8 i x (by (clear hn ho hk hV hW hK hQ hps hT hVT hE0 t4 t5 t6 hG hL hst u1 u2 w0 r90 d102 msk c19 s53 P1 P2 P3 P5 P6 P7 len st0 xar hE hTa hVa a70 a71 hae oo q1 q2 q3 q4 hp0 ho12 hE1 hT1 b70 h12 x2F c70 c71 c53 c142 c17 q2D d6 dr hE2 hT2 hV2 hES e7 hq4 w1 w2 w3 w4 w5 w6 w8 w9 w10 hT4 m70 m71 hg1 hp1 e108 hsH hbdH hkkH haskH P4H xkH hkcH h01H w7a w7b w7c E2 z70 z71 z53 z142 zXF E3 pre2 zQN z13H E1 zT k1 h13 hE6 k1' dS3 n6 nr n75 n102 n90 n104 nF hR1 f53 f142 x; omega)), c142]
    have fl7 : nX_ M5 1 7 = M5 1 7 := nX_1 (by decide)
    have hkO : Mq 6 102 < 14 := by (clear hk hV hW hK hQ hps hT hVT hE0 t4 t5 t6 hG hL hst u1 u2 w0 r90 msk c19 s53 P1 P2 P3 P5 P6 P7 len st0 xar hE hTa hVa a70 a71 hae oo q1 q2 q3 q4 hp0 ho12 hE1 hT1 b70 h12 x2F c70 c71 c53 c142 c17 q2D d6 dr hE2 hT2 hV2 hES e7 hq4 w1 w2 w3 w4 w5 w6 w8 w9 w10 hT4 m70 m71 hg1 hp1 e108 hsH hbdH hkkH haskH P4H xkH hkcH h01H w7a w7b w7c E2 z70 z71 z53 z142 zXF E3 pre2 zQN z13H E1 zT k1 h13 hE6 k1' dS3 n6 nr n75 n90 n104 nF hR1 f53 f142 v53 w8' fl7; lia)
    refine hK _ (hD_ (nx_ N5) (Mx 71 a) (Mq 6 104) asked (Mq 6 102)) (a4 + 1) (a + 1) s ⟨?_, ?_, ?_, ?_, ?_, ?_, ?_, ?_⟩ (XF_tr zXF nX_XF) dS3 (fun Kv Qtq hq => pre2 _ _ fun V hV hW => b_269_76 (Tr_mono _) hV hW _ _ _ _ (j_244t zT E1 (by decide) k1 h13 (q_227g (ER_goq hE6) ?_)))
    · refine PRD_s (PRC_D (PRC_rf hps)) (ER_Q hE6 (hD_6 (by decide) (by decide)) (hD_6 (by decide) (by decide)) (hD_6 (by decide) (by decide)) (hD_6 (by decide) (by decide)) (hD_6 (by decide) (by decide))) (XF_tr zXF nX_XF) (QD_tr q2D (QD_tr (QG_QD w3) (QD_tr (QN_QD zQN) (QD_tr (QN_QD QN_nx) hR1)))) ⟨fun i x y => ?_, fun r i hr x y => ?_, fun i x y => ?_, fun i x y => ?_, fun r i hr x y => ?_, fun r i hr x y => ?_⟩ ⟨by (clear hn ho hk hV hW hK hQ hps hT hVT hE0 t4 t5 t6 hG hL hst u1 u2 w0 r90 d102 msk c19 s53 P1 P2 P3 P5 P6 P7 len st0 xar hE hTa hVa a70 a71 hae oo q1 q2 q3 q4 hp0 ho12 hE1 hT1 b70 h12 x2F c70 c71 c53 c142 c17 q2D d6 dr hE2 hT2 hV2 hES e7 hq4 w2 w3 w4 w5 w6 w8 w9 w10 hT4 m70 m71 hg1 hp1 e108 hsH hbdH hkkH haskH P4H xkH hkcH h01H w7a w7b w7c E2 z70 z71 z53 z142 zXF E3 pre2 zQN z13H E1 zT k1 h13 hE6 k1' dS3 n6 nr n75 n102 n90 n104 nF hR1 f53 f142 v53 w8' fl7 hkO; lia), by rw [hD_75, n75]; (clear hn ho hk hV hW hK hQ hps hT hVT hE0 t4 t5 t6 hG hL hst u1 u2 w0 r90 d102 msk c19 s53 P1 P2 P3 P5 P6 P7 len st0 xar hE hTa hVa a70 a71 hae oo q1 q2 q3 q4 hp0 ho12 hE1 hT1 b70 h12 x2F c70 c71 c53 c142 c17 q2D d6 dr hE2 hT2 hV2 hES e7 hq4 w2 w3 w4 w5 w6 w8 w9 w10 hT4 m70 m71 hg1 hp1 e108 hsH hbdH hkkH haskH P4H xkH hkcH h01H w7a w7b w7c E2 z70 z71 z53 z142 zXF E3 pre2 zQN z13H E1 zT k1 h13 hE6 k1' dS3 n6 nr n75 n102 n90 n104 nF hR1 f53 f142 v53 w8' fl7 hkO; lia), by rw [hD_6 (by decide) (by decide), n104]; (clear hn ho hk hV hW hK hQ hps hT hVT hE0 t4 t5 t6 hG hL hst u1 u2 w0 r90 d102 msk c19 s53 P1 P2 P3 P5 P6 P7 len st0 xar hE hTa hVa a70 a71 hae oo q1 q2 q3 q4 hp0 ho12 hE1 hT1 b70 h12 x2F c70 c71 c53 c142 c17 q2D d6 dr hE2 hT2 hV2 hES e7 hq4 w1 w2 w3 w4 w6 w8 w9 w10 hT4 m70 m71 hg1 hp1 e108 hsH hbdH hkkH haskH P4H xkH hkcH h01H w7a w7b w7c E2 z70 z71 z53 z142 zXF E3 pre2 zQN z13H E1 zT k1 h13 hE6 k1' dS3 n6 nr n75 n102 n90 nF hR1 f53 f142 v53 w8' fl7 hkO; lia), ⟨by rw [f53]; (clear hn ho hk hV hW hK hQ hps hT hVT hE0 t4 t5 t6 hG hL hst u1 u2 w0 r90 d102 msk c19 s53 P1 P2 P3 P5 len st0 xar hE hTa hVa a70 a71 hae oo q1 q2 q3 q4 hp0 ho12 hE1 hT1 b70 h12 x2F c70 c71 c53 c142 c17 q2D d6 dr hE2 hT2 hV2 hES e7 hq4 w1 w2 w3 w4 w5 w6 w8 w9 w10 hT4 m70 m71 hg1 hp1 e108 hsH hbdH hkkH haskH P4H xkH hkcH h01H w7b w7c E2 z70 z71 z53 z142 zXF E3 pre2 zQN z13H E1 zT k1 h13 hE6 k1' dS3 n6 nr n75 n102 n90 n104 nF hR1 f142 w8' fl7 hkO; lia), by rw [f53]; (clear hn ho hk hV hW hK hQ hps hT hVT hE0 t4 t5 t6 hG hL hst u1 u2 w0 r90 d102 msk c19 s53 P1 P2 P3 P5 len st0 xar hE hTa hVa a70 a71 hae oo q1 q2 q3 q4 hp0 ho12 hE1 hT1 b70 h12 x2F c70 c71 c53 c142 c17 q2D d6 dr hE2 hT2 hV2 hES e7 hq4 w1 w2 w3 w4 w5 w6 w8 w9 w10 hT4 m70 m71 hg1 hp1 e108 hsH hbdH hkkH haskH P4H xkH hkcH h01H w7c E2 z70 z71 z53 z142 zXF E3 pre2 zQN z13H E1 zT k1 h13 hE6 k1' dS3 n6 nr n75 n102 n90 n104 nF hR1 f142 w8' fl7 hkO; lia), fun hb => by rw [f53, hid_un w7c hb, v53, P3 hb]⟩, by rw [hD_6 (by decide) (by decide), n90]; (clear hn ho hk hV hW hK hQ hps hT hVT hE0 t4 t5 t6 hG hL hst u1 u2 w0 r90 d102 msk c19 s53 P1 P2 P3 P5 P6 P7 len st0 xar hE hTa hVa a70 a71 hae oo q1 q2 q3 q4 hp0 ho12 hE1 hT1 b70 h12 x2F c70 c71 c53 c142 c17 q2D d6 dr hE2 hT2 hV2 hES e7 hq4 w2 w3 w4 w5 w6 w8 w9 w10 hT4 m70 m71 hg1 hp1 e108 hsH hbdH hkkH haskH P4H xkH hkcH h01H w7a w7b w7c E2 z70 z71 z53 z142 zXF E3 pre2 zQN z13H E1 zT k1 h13 hE6 k1' dS3 n6 nr n75 n102 n90 n104 nF hR1 f53 f142 v53 w8' fl7 hkO; omega), by (clear hn ho hk hV hW hK hQ hps hT hVT hE0 t4 t5 t6 hG hL hst u1 u2 w0 r90 d102 msk c19 s53 P1 P2 P3 P5 P6 P7 len st0 xar hE hTa hVa a70 a71 hae oo q1 q2 q3 q4 hp0 ho12 hE1 hT1 b70 h12 x2F c70 c71 c53 c142 q2D d6 dr hE2 hT2 hV2 hES e7 hq4 w1 w2 w3 w4 w5 w6 w8 w10 hT4 m70 m71 hg1 hp1 e108 hsH hbdH hkkH haskH P4H xkH hkcH h01H w7a w7b w7c z70 z71 z53 z142 zXF E3 pre2 zQN z13H E1 zT k1 h13 hE6 k1' dS3 n6 nr n75 n102 n90 n104 nF hR1 f53 f142 v53 w8' hkO; lia)⟩ (by omega)
      · rw [f142, w8' i x (by (clear hn ho hk hV hW hK hQ hps hT hVT hE0 t4 t5 t6 hG hL hst u1 u2 w0 r90 d102 msk c19 s53 P1 P2 P3 P5 len st0 xar hE hTa hVa a70 a71 hae oo q1 q2 q3 q4 hp0 ho12 hE1 hT1 b70 h12 x2F c70 c71 c53 c142 c17 q2D d6 dr hE2 hT2 hV2 hES e7 hq4 w1 w2 w3 w4 w5 w6 w8 w9 w10 hT4 m70 m71 hg1 hp1 e108 hsH hbdH hkkH haskH P4H xkH hkcH h01H w7a w7b w7c E2 z70 z71 z53 z142 zXF E3 pre2 zQN z13H E1 zT k1 h13 hE6 k1' dS3 n6 nr n75 n102 n90 n104 nF hR1 f53 f142 w8' fl7 hkO x; lia)), P5 i y]
      · rw [hD_o hr (by rw [n75]; (clear hn ho hk hV hW hK hQ hps hT hVT hE0 t4 t5 t6 hG hL hst u1 u2 w0 r90 d102 msk c19 s53 P1 P2 P3 P5 P6 P7 len st0 xar hE hTa hVa a70 a71 hae oo q1 q2 q3 q4 hp0 ho12 hE1 hT1 b70 h12 x2F c70 c71 c53 c142 c17 q2D d6 dr hE2 hT2 hV2 hES e7 hq4 w1 w2 w3 w4 w5 w6 w8 w9 w10 hT4 m70 m71 hg1 hp1 e108 hsH hbdH hkkH haskH P4H xkH hkcH h01H w7a w7b w7c E2 z70 z71 z53 z142 zXF E3 pre2 zQN z13H E1 zT k1 h13 hE6 k1' dS3 n6 nr n102 n90 n104 nF hR1 f53 f142 v53 w8' fl7 hkO hr x; lia)), nr r (fun e => absurd hr (by rw [e]; decide)) (by unfold opL at hr; simp only [List.mem_cons, List.not_mem_nil, or_false] at hr; (clear hn ho hk hV hW hK hQ hps hT hVT hE0 t4 t5 t6 hG hL hst u1 u2 w0 r90 d102 msk c19 s53 P1 P2 P3 P5 P6 P7 len st0 xar hE hTa hVa a70 a71 hae oo q1 q2 q3 q4 hp0 ho12 hE1 hT1 b70 h12 x2F c70 c71 c53 c142 c17 q2D d6 dr hE2 hT2 hV2 hES e7 hq4 w1 w2 w3 w4 w5 w6 w8 w9 w10 hT4 m70 m71 hg1 hp1 e108 hsH hbdH hkkH haskH P4H xkH hkcH h01H w7a w7b w7c E2 z70 z71 z53 z142 zXF E3 pre2 zQN z13H E1 zT k1 h13 hE6 k1' dS3 n6 nr n75 n102 n90 n104 nF hR1 f53 f142 v53 w8' fl7 hkO x y; omega))]
      · rw [hD_r (by decide) (by decide), nr 209 (by decide) (by decide)]
      · rw [hD_r (by decide) (by decide), hD_r (by decide) (by decide), (nF i x (by (clear hn ho hk hV hW hK hQ hps hT hVT hE0 t4 t5 t6 hG hL hst u1 u2 w0 r90 d102 msk c19 s53 P1 P2 P3 P5 P6 P7 len st0 xar hE hTa hVa a70 a71 hae oo q1 q2 q3 q4 hp0 ho12 hE1 hT1 b70 h12 x2F c70 c71 c53 c142 c17 q2D d6 dr hE2 hT2 hV2 hES e7 hq4 w1 w2 w3 w4 w6 w8 w9 w10 hT4 m70 m71 hg1 hp1 e108 hsH hbdH hkkH haskH P4H xkH hkcH h01H w7a w7b w7c E2 z70 z71 z53 z142 zXF E3 pre2 zQN z13H E1 zT k1 h13 hE6 k1' dS3 n6 nr n75 n102 n90 nF hR1 f53 f142 v53 w8' fl7 hkO x; omega))).1, (nF i x (by omega)).2, (w6 i x y).1, (w6 i x y).2, dr 227 (by decide), dr 228 (by decide)]; exact ⟨rfl, rfl⟩
      · have hb : r ≠ 6 ∧ 210 < r ∧ r < 220 := by unfold rgR at hr; simp only [List.mem_cons, List.not_mem_nil, or_false] at hr; (clear hn ho hk hV hW hK hQ hps hT hVT hE0 t4 t5 t6 hG hL hst u1 u2 w0 r90 d102 msk c19 s53 P1 P2 P3 P5 P6 P7 len st0 xar hE hTa hVa a70 a71 hae oo q1 q2 q3 q4 hp0 ho12 hE1 hT1 b70 h12 x2F c70 c71 c53 c142 c17 q2D d6 dr hE2 hT2 hV2 hES e7 hq4 w1 w2 w3 w4 w5 w6 w8 w9 w10 hT4 m70 m71 hg1 hp1 e108 hsH hbdH hkkH haskH P4H xkH hkcH h01H w7a w7b w7c E2 z70 z71 z53 z142 zXF E3 pre2 zQN z13H E1 zT k1 h13 hE6 k1' dS3 n6 nr n75 n102 n90 n104 nF hR1 f53 f142 v53 w8' fl7 hkO x y; omega)
        rw [hD_r hb.1 (.inr (.inl hb.2)), nr r hb.1 (by (clear hn ho hk hV hW hK hQ hps hT hVT hE0 t4 t5 t6 hG hL hst u1 u2 w0 r90 d102 msk c19 s53 P1 P2 P3 P5 P6 P7 len st0 xar hE hTa hVa a70 a71 hae oo q1 q2 q3 q4 hp0 ho12 hE1 hT1 b70 h12 x2F c70 c71 c53 c142 c17 q2D d6 dr hE2 hT2 hV2 hES e7 hq4 w1 w2 w3 w4 w5 w6 w8 w9 w10 hT4 m70 m71 hg1 hp1 e108 hsH hbdH hkkH haskH P4H xkH hkcH h01H w7a w7b w7c E2 z70 z71 z53 z142 zXF E3 pre2 zQN z13H E1 zT k1 h13 hE6 k1' dS3 n6 nr n75 n102 n90 n104 nF hR1 f53 f142 v53 w8' fl7 hkO hr x y; omega))]
      · rw [hD_d hr (by (clear hn ho hk hV hW hK hQ hps hT hVT hE0 t4 t5 t6 hG hL hst u1 u2 w0 r90 d102 msk c19 s53 P1 P2 P3 P5 P6 P7 len st0 xar hE hTa hVa a70 a71 hae oo q1 q2 q3 q4 hp0 ho12 hE1 hT1 b70 h12 x2F c70 c71 c53 c142 c17 q2D d6 dr hE2 hT2 hV2 hES e7 hq4 w1 w2 w3 w4 w5 w6 w8 w9 w10 hT4 m70 m71 hg1 hp1 e108 hsH hbdH hkkH haskH P4H xkH hkcH h01H w7a w7b w7c E2 z70 z71 z53 z142 zXF E3 pre2 zQN z13H E1 zT k1 h13 hE6 k1' dS3 n6 nr n75 n90 n104 nF hR1 f53 f142 v53 w8' fl7 hkO hr x; lia)), nr r (fun e => absurd hr (by rw [e]; decide)) (by unfold dsR at hr; simp only [List.mem_cons, List.not_mem_nil, or_false] at hr; (clear hn ho hk hV hW hK hQ hps hT hVT hE0 t4 t5 t6 hG hL hst u1 u2 w0 r90 d102 msk c19 s53 P1 P2 P3 P5 P6 P7 len st0 xar hE hTa hVa a70 a71 hae oo q1 q2 q3 q4 hp0 ho12 hE1 hT1 b70 h12 x2F c70 c71 c53 c142 c17 q2D d6 dr hE2 hT2 hV2 hES e7 hq4 w1 w2 w3 w4 w5 w6 w8 w9 w10 hT4 m70 m71 hg1 hp1 e108 hsH hbdH hkkH haskH P4H xkH hkcH h01H w7a w7b w7c E2 z70 z71 z53 z142 zXF E3 pre2 zQN z13H E1 zT k1 h13 hE6 k1' dS3 n6 nr n75 n102 n90 n104 nF hR1 f53 f142 v53 w8' fl7 hkO x y; omega))]
    · exact hD_102
    · have hd := hD_dd (N := nx_ N5) (p := Mx 71 a) (e := Mq 6 104) (q := asked) (dd := Mq 6 102)
      refine ⟨by rw [hd.1]; exact n75, hd.2.1, by decide, ⟨by rw [hd.2.2.1]; decide, by rw [hd.2.2.1, hD_6 (by decide) (by decide), n90]; (clear hn ho hk hV hW hK hQ hps hT hVT hE0 t4 t5 t6 hG hL hst u1 u2 w0 d102 msk c19 s53 P1 P2 P3 P5 P6 P7 len st0 xar hE hTa hVa a70 a71 hae oo q1 q2 q3 q4 hp0 ho12 hE1 hT1 b70 h12 x2F c70 c71 c53 c142 c17 q2D d6 dr hE2 hT2 hV2 hES e7 hq4 w1 w2 w3 w4 w5 w6 w8 w9 w10 hT4 m70 m71 hg1 hp1 e108 hsH hbdH hkkH haskH P4H xkH hkcH h01H w7a w7b w7c E2 z70 z71 z53 z142 zXF E3 pre2 zQN z13H E1 zT k1 h13 hE6 k1' dS3 n6 nr n75 n102 n104 nF hR1 f53 f142 v53 w8' fl7 hkO hd; lia)⟩, fun h => by rw [hd.2.2.1] at h; (clear hn ho hk hV hW hK hQ hps hT hVT hE0 t4 t5 t6 hG hL hst u1 u2 w0 r90 d102 msk c19 s53 P1 P2 P3 P5 P6 P7 len st0 xar hE hTa hVa a70 a71 hae oo q1 q2 q3 q4 hp0 ho12 hE1 hT1 b70 h12 x2F c70 c71 c53 c142 c17 q2D d6 dr hE2 hT2 hV2 hES e7 hq4 w1 w2 w3 w4 w5 w6 w8 w9 w10 hT4 m70 m71 hg1 hp1 e108 hsH hbdH hkkH haskH P4H xkH hkcH h01H w7a w7b w7c E2 z70 z71 z53 z142 zXF E3 pre2 zQN z13H E1 zT k1 h13 hE6 k1' dS3 n6 nr n75 n102 n90 n104 nF hR1 f53 f142 v53 w8' fl7 hkO hd; lia), fun hb => ?_, hd.2.2.2.2.2.1, hd.2.2.2.2.2.2, .inr rfl⟩
      rw [hd.2.2.2.1, hid_un haskH]
      have q := hid_un hsH hb
      rcases hid_un hbdH with h0 | h1
      · have := q.1 h0
        by_cases c : t = 3
        · rw [if_neg (fun e => e.2 c), if_pos (by (clear hn ho hk hV hW hK hQ hps hT hVT hE0 t4 t5 t6 hG hL hst u1 u2 w0 r90 d102 msk c19 s53 P1 P2 P3 P5 P6 P7 len st0 xar hE hTa hVa a70 a71 hae oo q1 q2 q3 q4 hp0 ho12 hE1 hT1 b70 h12 x2F c70 c71 c53 c142 c17 q2D d6 dr hE2 hT2 hV2 hES e7 hq4 w1 w2 w3 w4 w5 w6 w8 w9 w10 hT4 m70 m71 hg1 hp1 e108 hsH hbdH hkkH haskH P4H xkH hkcH h01H w7a w7b w7c E2 z70 z71 z53 z142 zXF E3 pre2 zQN z13H E1 zT k1 h13 hE6 k1' dS3 n6 nr n75 n102 n90 n104 nF hR1 f53 f142 v53 w8' fl7 hkO hd hb q h0; omega))]; decide
        · rw [if_pos ⟨h0, c⟩, if_neg (by (clear hn ho hk hV hW hK hQ hps hT hVT hE0 t4 t5 t6 hG hL hst u1 u2 w0 r90 d102 msk c19 s53 P1 P2 P3 P5 P6 P7 len st0 xar hE hTa hVa a70 a71 hae oo q1 q2 q3 q4 hp0 ho12 hE1 hT1 b70 h12 x2F c70 c71 c53 c142 c17 q2D d6 dr hE2 hT2 hV2 hES e7 hq4 w1 w2 w3 w4 w5 w6 w8 w9 w10 hT4 m70 m71 hg1 hp1 e108 hsH hbdH hkkH haskH P4H xkH hkcH h01H w7a w7b w7c E2 z70 z71 z53 z142 zXF E3 pre2 zQN z13H E1 zT k1 h13 hE6 k1' dS3 n6 nr n75 n102 n90 n104 nF hR1 f53 f142 v53 w8' fl7 hkO hd hb q h0; omega))]; (clear hn ho hk hV hW hK hQ hps hT hVT hE0 t4 t5 t6 hG hL hst u1 u2 w0 r90 d102 msk c19 s53 P1 P2 P3 P5 P6 P7 len st0 xar hE hTa hVa a70 a71 hae oo q1 q2 q3 q4 hp0 ho12 hE1 hT1 b70 h12 x2F c70 c71 c53 c142 c17 q2D d6 dr hE2 hT2 hV2 hES e7 hq4 w1 w2 w3 w4 w5 w6 w8 w9 w10 hT4 m70 m71 hg1 hp1 e108 hsH hbdH hkkH haskH P4H xkH hkcH h01H w7a w7b w7c E2 z70 z71 z53 z142 zXF E3 pre2 zQN z13H E1 zT k1 h13 hE6 k1' dS3 n6 nr n75 n102 n90 n104 nF hR1 f53 f142 v53 w8' fl7 hkO hd hb q h0 c; omega)
      · have := q.2 h1
        rw [if_neg (by (clear hn ho hk hV hW hK hQ hps hT hVT hE0 t4 t5 t6 hG hL hst u1 u2 w0 r90 d102 msk c19 s53 P1 P2 P3 P5 P6 P7 len st0 xar hE hTa hVa a70 a71 hae oo q1 q2 q3 q4 hp0 ho12 hE1 hT1 b70 h12 x2F c70 c71 c53 c142 c17 q2D d6 dr hE2 hT2 hV2 hES e7 hq4 w1 w2 w3 w4 w5 w6 w8 w9 w10 hT4 m70 m71 hg1 hp1 e108 hsH hbdH hkkH haskH P4H xkH hkcH h01H w7a w7b w7c E2 z70 z71 z53 z142 zXF E3 pre2 zQN z13H E1 zT k1 h13 hE6 k1' dS3 n6 nr n75 n102 n90 n104 nF hR1 f53 f142 v53 w8' fl7 hkO hd hb q this; lia)), if_neg (by (clear hn ho hk hV hW hK hQ hps hT hVT hE0 t4 t5 t6 hG hL hst u1 u2 w0 r90 d102 msk c19 s53 P1 P2 P3 P5 P6 P7 len st0 xar hE hTa hVa a70 a71 hae oo q1 q2 q3 q4 hp0 ho12 hE1 hT1 b70 h12 x2F c70 c71 c53 c142 c17 q2D d6 dr hE2 hT2 hV2 hES e7 hq4 w1 w2 w3 w4 w5 w6 w8 w9 w10 hT4 m70 m71 hg1 hp1 e108 hsH hbdH hkkH haskH P4H xkH hkcH h01H w7a w7b w7c E2 z70 z71 z53 z142 zXF E3 pre2 zQN z13H E1 zT k1 h13 hE6 k1' dS3 n6 nr n75 n102 n90 n104 nF hR1 f53 f142 v53 w8' fl7 hkO hd hb q h1; lia))]; (clear hn ho hk hV hW hK hQ hps hT hVT hE0 t4 t5 t6 hG hL hst u1 u2 w0 r90 d102 msk c19 s53 P1 P2 P3 P5 P6 P7 len st0 xar hE hTa hVa a70 a71 hae oo q1 q2 q3 q4 hp0 ho12 hE1 hT1 b70 h12 x2F c70 c71 c53 c142 c17 q2D d6 dr hE2 hT2 hV2 hES e7 hq4 w1 w2 w3 w4 w5 w6 w8 w9 w10 hT4 m70 m71 hg1 hp1 e108 hsH hbdH hkkH haskH P4H xkH hkcH h01H w7a w7b w7c E2 z70 z71 z53 z142 zXF E3 pre2 zQN z13H E1 zT k1 h13 hE6 k1' dS3 n6 nr n75 n102 n90 n104 nF hR1 f53 f142 v53 w8' fl7 hkO hd hb q h1; lia)
    · rw [hD_75, n75]; (clear hn ho hk hV hW hK hQ hps hT hVT hE0 t4 t5 t6 hG hL hst u1 u2 w0 r90 d102 msk c19 s53 P1 P2 P3 P5 P6 P7 len st0 xar hE hTa hVa a70 a71 hae oo q1 q2 q3 q4 hp0 ho12 hE1 hT1 b70 h12 x2F c70 c71 c53 c142 c17 q2D d6 dr hE2 hT2 hV2 hES e7 hq4 w1 w2 w3 w4 w5 w6 w8 w9 w10 hT4 m70 m71 hg1 hp1 e108 hsH hbdH hkkH haskH P4H xkH hkcH h01H w7a w7b w7c E2 z70 z71 z53 z142 zXF E3 pre2 zQN z13H E1 zT k1 h13 hE6 k1' dS3 n6 nr n75 n102 n90 n104 nF hR1 f53 f142 v53 w8' fl7 hkO; lia)
    · have := (hD_k (N := nx_ N5) (p := Mx 71 a) (e := Mq 6 104) (q := asked) (dd := Mq 6 102) trivial).2.2.2
      rw [n75] at this; exact this
    · exact hD_dd.2.2.2.2.1
    · exact fun _ => rfl
    · intro hb h0
      have hkf := hD_k (N := nx_ N5) (p := Mx 71 a) (e := Mq 6 104) (q := asked) (dd := Mq 6 102) trivial
      rw [n75] at hkf
      have h5 : N5 6 13 = 0 := by rw [hD_6 (by decide) (by decide), nx_6 (by decide)] at h0; exact h0
      obtain ⟨kk0, h4⟩ := hid_un z13H hb h5
      obtain ⟨h2, t', ht', hx⟩ := w10 hb h4
      rw [d6 13 (by decide) (by decide)] at h2
      have hbd0 : bd = 0 := by
        rcases hid_un hbdH with h | h
        · exact h
        · exact absurd h4 ((hid_un hsH hb).2 h).2
      have hsq := (hid_un hsH hb).1 hbd0
      have ht3 : t ≠ 3 := fun e => by have hkk := hid_un hkkH; rw [if_pos ⟨hbd0, e⟩] at hkk; (clear hn ho hk hV hW hK hQ hps hT hVT hE0 t4 t5 t6 hG hL hst u1 u2 w0 r90 d102 msk c19 s53 P1 P2 P3 P5 P6 P7 len st0 xar hE hTa hVa a70 a71 hae oo q1 q2 q3 q4 hp0 ho12 hE1 hT1 b70 h12 x2F c70 c71 c53 c142 c17 q2D d6 dr hE2 hT2 hV2 hES e7 hq4 w1 w2 w3 w4 w5 w6 w8 w9 w10 hT4 m70 m71 hg1 hp1 e108 hsH hbdH hkkH haskH P4H xkH hkcH h01H w7a w7b w7c E2 z70 z71 z53 z142 zXF E3 pre2 zQN z13H E1 zT k1 h13 hE6 k1' dS3 n6 nr n75 n102 n90 n104 nF hR1 f53 f142 v53 w8' fl7 hkO hb h0 hkf h5 h4 h2 ht' hx hbd0 hsq e; lia)
      have ett : t' = t := by have := ht' (by (clear hn ho hk hV hW hK hQ hps hT hVT hE0 t4 t5 t6 hG hL hst u1 u2 w0 r90 d102 msk c19 s53 P1 P2 P3 P5 P6 P7 len st0 xar hE hTa hVa a70 a71 hae oo q1 q2 q3 q4 hp0 ho12 hE1 hT1 b70 h12 x2F c70 c71 c53 c142 c17 q2D d6 dr hE2 hT2 hV2 hES e7 hq4 w1 w2 w3 w4 w5 w6 w8 w9 w10 hT4 m70 m71 hg1 hp1 e108 hsH hbdH hkkH haskH P4H xkH hkcH h01H w7a w7b w7c E2 z70 z71 z53 z142 zXF E3 pre2 zQN z13H E1 zT k1 h13 hE6 k1' dS3 n6 nr n75 n102 n90 n104 nF hR1 f53 f142 v53 w8' fl7 hkO hb h0 hkf h5 kk0 h4 h2 ht' hx hbd0 ht3; omega)); (clear hn ho hk hV hW hK hQ hps hT hVT hE0 t4 t5 t6 hG hL hst u1 u2 w0 r90 d102 msk c19 s53 P1 P2 P3 P5 P6 P7 len st0 xar hE hTa hVa a70 a71 hae oo q1 q2 q3 q4 hp0 ho12 hE1 hT1 b70 h12 x2F c70 c71 c53 c142 c17 q2D d6 dr hE2 hT2 hV2 hES e7 hq4 w1 w2 w3 w4 w5 w6 w8 w9 w10 hT4 m70 m71 hg1 hp1 e108 hsH hbdH hkkH haskH P4H xkH hkcH h01H w7a w7b w7c E2 z70 z71 z53 z142 zXF E3 pre2 zQN z13H E1 zT k1 h13 hE6 k1' dS3 n6 nr n75 n102 n90 n104 nF hR1 f53 f142 v53 w8' fl7 hkO hb h0 hkf h5 kk0 h4 h2 ht' hx hbd0 ht3; lia)
      rw [ett, d6 61 (by decide) (by decide)] at hx
      have p4 := hid_un P4H hb
      rw [len] at p4
      obtain ⟨s1, s2, _⟩ := p4.2
      have eMa : Ma 5 3 = Mx 5 3 + 2 := by (clear hn ho hk hV hW hK hQ hps hT hVT hE0 t4 t5 t6 hG hL hst u1 u2 w0 r90 d102 msk c19 s53 P1 P2 P3 P5 P6 P7 len st0 xar hE hTa hVa a70 a71 hae oo q1 q2 q3 q4 hp0 ho12 hE1 hT1 b70 h12 x2F c70 c71 c53 c142 c17 q2D d6 dr hE2 hT2 hV2 hES e7 hq4 w1 w2 w3 w4 w5 w6 w8 w9 w10 hT4 m70 m71 hg1 hp1 e108 hsH hbdH hkkH haskH P4H xkH hkcH h01H w7a w7b w7c E2 z70 z71 z53 z142 zXF E3 pre2 zQN z13H E1 zT k1 h13 hE6 k1' dS3 n6 nr n75 n102 n90 n104 nF hR1 f53 f142 w8' fl7 hkO hb h0 hkf h5 kk0 h4 h2 ht' hx hbd0 hsq ht3 ett s1 s2; lia)
      rw [v53, eMa] at hx
      have le := EXP_le hx
      refine ⟨h2, fun _ => 0, fun _ => False, M4 5 3, t, fun k x y => ?_, fun k hk => hk.elim, ⟨by (clear hn ho hk hV hW hK hQ hps hT hVT hE0 t4 t5 t6 hG hL hst u1 u2 w0 r90 d102 msk c19 s53 P1 P2 P3 P5 P6 P7 len st0 xar hE hTa hVa a70 a71 hae oo q1 q2 q3 q4 hp0 ho12 hE1 hT1 b70 h12 x2F c70 c71 c53 c142 c17 q2D d6 dr hE2 hT2 hV2 hES e7 hq4 w1 w2 w3 w4 w5 w6 w8 w9 w10 hT4 m70 m71 hg1 hp1 e108 hsH hbdH hkkH haskH P4H xkH hkcH h01H w7a w7b w7c E2 z70 z71 z53 z142 zXF E3 pre2 zQN z13H E1 zT k1 h13 hE6 k1' dS3 n6 nr n75 n102 n90 n104 nF hR1 f53 f142 v53 w8' fl7 hkO hb h0 hkf h5 kk0 h4 h2 ht' hx hbd0 p4 s1 s2 eMa le; lia), by (clear hn ho hk hV hW hK hQ hps hT hVT hE0 t4 t5 t6 hG hL hst u1 u2 w0 r90 d102 msk c19 s53 P1 P2 P3 P5 P6 P7 len st0 xar hE hTa hVa a70 a71 hae oo q1 q2 q3 q4 hp0 ho12 hE1 hT1 b70 h12 x2F c70 c71 c53 c142 c17 q2D d6 dr hE2 hT2 hV2 hES e7 hq4 w1 w2 w3 w4 w5 w6 w8 w9 w10 hT4 m70 m71 hg1 hp1 e108 hsH hbdH hkkH haskH P4H xkH hkcH h01H w7b w7c E2 z70 z71 z53 z142 zXF E3 pre2 zQN z13H E1 zT k1 h13 hE6 k1' dS3 n6 nr n75 n102 n90 n104 nF hR1 f142 w8' fl7 hkO hb h0 hkf h5 kk0 h4 h2 ht' hx hbd0 hsq ht3 ett s1 s2 eMa le; omega), by rw [f53]; (clear hn ho hk hV hW hK hQ hps hT hVT hE0 t4 t5 t6 hG hL hst u1 u2 w0 r90 d102 msk c19 s53 P1 P2 P3 P5 P6 P7 len st0 xar hE hTa hVa a70 a71 hae oo q1 q2 q3 q4 hp0 ho12 hE1 hT1 b70 h12 x2F c70 c71 c53 c142 c17 q2D d6 dr hE2 hT2 hV2 hES e7 hq4 w1 w2 w3 w4 w5 w6 w8 w9 w10 hT4 m70 m71 hg1 hp1 e108 hsH hbdH hkkH haskH P4H xkH hkcH h01H w7a w7b w7c E2 z70 z71 z53 z142 zXF E3 pre2 zQN z13H E1 zT k1 h13 hE6 k1' dS3 n6 nr n75 n102 n90 n104 nF hR1 f53 f142 v53 w8' fl7 hkO hb h0 hkf h5 kk0 h4 h2 ht' hx hbd0 hsq ht3 ett p4 s1 s2 eMa le; lia), hkf.1⟩, fun M1 hA => ?_, ⟨hD_dd.2.2.2.2.1, rfl⟩, fun _ k hk => hk.elim, fun l x y => ?_, ?_⟩
      · rw [hD_75, n75] at y; (clear hn ho hk hV hW hK hQ hps hT hVT hE0 t4 t5 t6 hG hL hst u1 u2 w0 r90 d102 msk c19 s53 P1 P2 P3 P5 P6 P7 len st0 xar hE hTa hVa a70 a71 hae oo q1 q2 q3 q4 hp0 ho12 hE1 hT1 b70 h12 x2F c70 c71 c53 c142 c17 q2D d6 dr hE2 hT2 hV2 hES e7 hq4 w1 w2 w3 w4 w5 w6 w8 w9 w10 hT4 m70 m71 hg1 hp1 e108 hsH hbdH hkkH haskH P4H xkH hkcH h01H w7a w7b w7c E2 z70 z71 z53 z142 zXF E3 pre2 zQN z13H E1 zT k1 h13 hE6 k1' dS3 n6 nr n102 n90 n104 nF hR1 f53 f142 v53 w8' fl7 hkO hb h0 hkf h5 kk0 h4 h2 ht' hx hbd0 hsq ht3 ett p4 s1 s2 eMa le; omega)
      · have hA' : ∀ i, Mx 5 3 ≤ i → i < M4 5 3 → M1 142 i = M4 142 i := fun i x y => by
          rw [hA i x (by rw [f53]; exact y) (fun k hk => hk.elim), f142]
        refine ⟨⟨?_, ?_, ?_⟩, .inl ⟨by rw [f53], hD_dd.2.2.1⟩, fun k x y => ?_⟩
        · rw [hA' _ (by (clear hn ho hk hV hW hK hQ hps hT hVT hE0 t4 t5 t6 hG hL hst u1 u2 w0 r90 d102 msk c19 s53 P1 P2 P3 P5 P6 P7 len st0 xar hE hTa hVa a70 a71 hae oo q1 q2 q3 q4 hp0 ho12 hE1 hT1 b70 h12 x2F c70 c71 c53 c142 c17 q2D d6 dr hE2 hT2 hV2 hES e7 hq4 w1 w2 w3 w4 w5 w6 w8 w9 w10 hT4 m70 m71 hg1 hp1 e108 hsH hbdH hkkH haskH P4H xkH hkcH h01H w7a w7b w7c E2 z70 z71 z53 z142 zXF E3 pre2 zQN z13H E1 zT k1 h13 hE6 k1' dS3 n6 nr n75 n102 n90 n104 nF hR1 f53 f142 v53 w8' fl7 hkO hb h0 hkf h5 kk0 h4 h2 ht' hx hbd0 hsq ht3 ett p4 s1 s2 eMa le hA hA'; lia)) (by (clear hn ho hk hV hW hK hQ hps hT hVT hE0 t4 t5 t6 hG hL hst u1 u2 w0 r90 d102 msk c19 s53 P1 P2 P3 P5 P6 P7 len st0 xar hE hTa hVa a70 a71 hae oo q1 q2 q3 q4 hp0 ho12 hE1 hT1 b70 h12 x2F c70 c71 c53 c142 c17 q2D d6 dr hE2 hT2 hV2 hES e7 hq4 w1 w2 w3 w4 w5 w6 w8 w9 w10 hT4 m70 m71 hg1 hp1 e108 hsH hbdH hkkH haskH P4H xkH hkcH h01H w7b w7c E2 z70 z71 z53 z142 zXF E3 pre2 zQN z13H E1 zT k1 h13 hE6 k1' dS3 n6 nr n75 n102 n90 n104 nF hR1 f142 w8' fl7 hkO hb h0 hkf h5 kk0 h4 h2 ht' hx hbd0 hsq ht3 ett s1 s2 eMa le hA hA'; omega)), w8' _ (by omega) (by (clear hn ho hk hV hW hK hQ hps hT hVT hE0 t4 t5 t6 hG hL hst u1 u2 w0 r90 d102 msk c19 s53 P1 P2 P3 P5 P6 P7 len st0 xar hE hTa hVa a70 a71 hae oo q1 q2 q3 q4 hp0 ho12 hE1 hT1 b70 h12 x2F c70 c71 c53 c142 c17 q2D d6 dr hE2 hT2 hV2 hES e7 hq4 w1 w2 w3 w4 w5 w6 w8 w9 w10 hT4 m70 m71 hg1 hp1 e108 hsH hbdH hkkH haskH P4H xkH hkcH h01H w7a w7b w7c E2 z70 z71 z53 z142 zXF E3 pre2 zQN z13H E1 zT k1 h13 hE6 k1' dS3 n6 nr n75 n102 n90 n104 nF hR1 f53 f142 w8' fl7 hkO hb h0 hkf h5 kk0 h4 h2 ht' hx hbd0 hsq ht3 ett s1 s2 eMa le hA hA'; omega))]; simpa using s2
        · rw [hA' _ (by (clear hn ho hk hV hW hK hQ hps hT hVT hE0 t4 t5 t6 hG hL hst u1 u2 w0 r90 d102 msk c19 s53 P1 P2 P3 P5 P6 P7 len st0 xar hE hTa hVa a70 a71 hae oo q1 q2 q3 q4 hp0 ho12 hE1 hT1 b70 h12 x2F c70 c71 c53 c142 c17 q2D d6 dr hE2 hT2 hV2 hES e7 hq4 w1 w2 w3 w4 w5 w6 w8 w9 w10 hT4 m70 m71 hg1 hp1 e108 hsH hbdH hkkH haskH P4H xkH hkcH h01H w7a w7b w7c E2 z70 z71 z53 z142 zXF E3 pre2 zQN z13H E1 zT k1 h13 hE6 k1' dS3 n6 nr n75 n102 n90 n104 nF hR1 f53 f142 v53 w8' fl7 hkO hb h0 hkf h5 kk0 h4 h2 ht' hx hbd0 hsq ht3 ett p4 s1 s2 eMa le hA hA'; lia)) (by (clear hn ho hk hV hW hK hQ hps hT hVT hE0 t4 t5 t6 hG hL hst u1 u2 w0 r90 d102 msk c19 s53 P1 P2 P3 P5 P6 P7 len st0 xar hE hTa hVa a70 a71 hae oo q1 q2 q3 q4 hp0 ho12 hE1 hT1 b70 h12 x2F c70 c71 c53 c142 c17 q2D d6 dr hE2 hT2 hV2 hES e7 hq4 w1 w2 w3 w4 w5 w6 w8 w9 w10 hT4 m70 m71 hg1 hp1 e108 hsH hbdH hkkH haskH P4H xkH hkcH h01H w7b w7c E2 z70 z71 z53 z142 zXF E3 pre2 zQN z13H E1 zT k1 h13 hE6 k1' dS3 n6 nr n75 n102 n90 n104 nF hR1 f142 w8' fl7 hkO hb h0 hkf h5 kk0 h4 h2 ht' hx hbd0 hsq ht3 ett s1 s2 eMa le hA hA'; omega)), w8' _ (by (clear hn ho hk hV hW hK hQ hps hT hVT hE0 t4 t5 t6 hG hL hst u1 u2 w0 r90 d102 msk c19 s53 P1 P2 P3 P5 P6 P7 len xar hE hTa hVa a70 a71 hae oo q1 q2 q3 q4 hp0 ho12 hE1 hT1 b70 h12 x2F c70 c71 c53 c142 c17 q2D d6 dr hE2 hT2 hV2 hES e7 hq4 w1 w2 w3 w4 w5 w6 w8 w9 w10 hT4 m70 m71 hg1 hp1 e108 hsH hbdH hkkH haskH P4H xkH hkcH h01H w7a w7b w7c E2 z70 z71 z53 z142 zXF E3 pre2 zQN z13H E1 zT k1 h13 hE6 k1' dS3 n6 nr n75 n102 n90 n104 nF hR1 f53 f142 w8' fl7 hkO hb h0 hkf h5 kk0 h4 h2 ht' hx hbd0 hsq ht3 ett s1 s2 eMa le hA hA'; lia)) (by (clear hn ho hk hV hW hK hQ hps hT hVT hE0 t4 t5 t6 hG hL hst u1 u2 w0 r90 d102 msk c19 s53 P1 P2 P3 P5 P6 P7 len st0 xar hE hTa hVa a70 a71 hae oo q1 q2 q3 q4 hp0 ho12 hE1 hT1 b70 h12 x2F c70 c71 c53 c142 c17 q2D d6 dr hE2 hT2 hV2 hES e7 hq4 w1 w2 w3 w4 w5 w6 w8 w9 w10 hT4 m70 m71 hg1 hp1 e108 hsH hbdH hkkH haskH P4H xkH hkcH h01H w7a w7b w7c E2 z70 z71 z53 z142 zXF E3 pre2 zQN z13H E1 zT k1 h13 hE6 k1' dS3 n6 nr n75 n102 n90 n104 nF hR1 f53 f142 w8' fl7 hkO hb h0 hkf h5 kk0 h4 h2 ht' hx hbd0 hsq ht3 ett s1 s2 eMa le hA hA'; omega)), hkf.2.1]; exact s1
        · rw [hkf.2.2.1]
          refine EXP_c hx (fun i x y => hA' i (by (clear hn ho hk hV hW hK hQ hps hT hVT hE0 t4 t5 t6 hG hL hst u1 u2 w0 r90 d102 msk c19 s53 P1 P2 P3 P5 P6 P7 len st0 xar hE hTa hVa a70 a71 hae oo q1 q2 q3 q4 hp0 ho12 hE1 hT1 b70 h12 x2F c70 c71 c53 c142 c17 q2D d6 dr hE2 hT2 hV2 hES e7 hq4 w1 w2 w3 w4 w5 w6 w8 w9 w10 hT4 m70 m71 hg1 hp1 e108 hsH hbdH hkkH haskH P4H xkH hkcH h01H w7a w7b w7c E2 z70 z71 z53 z142 zXF E3 pre2 zQN z13H E1 zT k1 h13 hE6 k1' dS3 n6 nr n75 n102 n90 n104 nF hR1 f53 f142 w8' fl7 hkO hb h0 hkf h5 kk0 h4 h2 ht' hx hbd0 hsq ht3 ett s1 s2 eMa le hA hA' y; omega)) y) (fun i x y => ?_) ?_ (by rw [hD_6 (by decide) (by decide), n104]; (clear hn ho hk hV hW hK hQ hps hT hVT hE0 t4 t5 t6 hG hL hst u1 u2 w0 r90 d102 msk c19 s53 P1 P2 P3 P5 P6 P7 len st0 xar hE hTa hVa a70 a71 hae oo q1 q2 q3 q4 hp0 ho12 hE1 hT1 b70 h12 x2F c70 c71 c53 c142 c17 q2D d6 dr hE2 hT2 hV2 hES e7 hq4 w1 w2 w3 w4 w5 w6 w8 w9 w10 hT4 m70 m71 hg1 hp1 e108 hsH hbdH hkkH haskH P4H xkH hkcH h01H w7a w7b w7c E2 z70 z71 z53 z142 zXF E3 pre2 zQN z13H E1 zT k1 h13 hE6 k1' dS3 n6 nr n75 n102 n90 n104 nF hR1 f53 f142 v53 w8' fl7 hkO hb h0 hkf h5 kk0 h4 h2 ht' hx hbd0 hsq ht3 ett p4 s1 s2 eMa le hA hA'; lia))
          · rw [hD_r (by decide) (by decide), hD_r (by decide) (by decide)]; exact nF i (by (clear hn ho hk hV hW hK hQ hps hT hVT hE0 t4 t6 hG hL hst u1 u2 w0 r90 d102 msk c19 s53 P1 P2 P3 P5 P6 P7 len st0 xar hE hTa hVa a70 a71 hae oo q1 q2 q3 q4 hp0 ho12 hE1 hT1 b70 h12 x2F c70 c71 c53 c142 c17 q2D d6 dr hE2 hT2 hV2 hES e7 hq4 w1 w2 w3 w4 w5 w6 w8 w9 w10 hT4 m70 m71 hg1 hp1 e108 hsH hbdH hkkH haskH P4H xkH hkcH h01H w7a w7b w7c E2 z70 z71 z53 z142 zXF E3 pre2 zQN z13H E1 zT k1 h13 hE6 k1' dS3 n6 nr n75 n102 n90 n104 nF hR1 f53 f142 v53 w8' fl7 hkO hb h0 h5 kk0 h4 h2 ht' hx hbd0 hsq ht3 ett p4 s1 s2 eMa le hA hA' y; omega)) y
          · refine ⟨?_, ?_, ?_, ?_, ?_⟩ <;> rw [hD_r (by decide) (by decide), nx_ne (by decide), zQN.1 _ (by decide)]
        · rw [hD_75, n75] at y; omega
      · rw [nX_1 (by decide)] at y
        have : M5 1 19 = Mx 1 19 := zXF.2.1 19 (by decide) (by decide) (by decide) (by decide) (by decide)
        (clear hn ho hk hV hW hK hQ hps hT hVT hE0 t4 t5 t6 hG hL hst u1 u2 w0 r90 d102 msk c19 s53 P1 P2 P3 P5 P6 P7 len st0 xar hE hTa hVa a70 a71 hae oo q1 q2 q3 q4 hp0 ho12 hE1 hT1 b70 h12 x2F c70 c71 c53 c142 c17 q2D d6 dr hE2 hT2 hV2 hES e7 hq4 w1 w2 w3 w4 w5 w6 w8 w9 w10 hT4 m70 m71 hg1 hp1 e108 hsH hbdH hkkH haskH P4H xkH hkcH h01H w7a w7b w7c E2 z70 z71 z53 z142 zXF E3 pre2 zQN z13H E1 zT k1 h13 hE6 k1' dS3 n6 nr n75 n102 n90 n104 nF hR1 f53 f142 v53 w8' fl7 hkO hb h0 hkf h5 kk0 h4 h2 ht' hx hbd0 hsq ht3 ett p4 s1 s2 eMa le; omega)
      · have y21 : nX_ M5 1 21 = Mx 1 21 := by rw [nX_1 (by decide)]; exact zXF.2.1 21 (by decide) (by decide) (by decide) (by decide) (by decide)
        have y23 : nX_ M5 1 23 = Mx 1 23 := by rw [nX_1 (by decide)]; exact zXF.2.1 23 (by decide) (by decide) (by decide) (by decide) (by decide)
        refine ⟨fun q x y => ?_, fun q x y => ?_⟩
        · rw [y21]
          refine ⟨fun h => .inl h, ?_⟩
          rintro (h | ⟨k, hk, h1, h2⟩)
          · exact h
          · rw [hD_75, n75] at hk
            rw [show k = Mq 6 75 by (clear hn ho hV hW hK hQ hps hT hVT hE0 t4 t5 t6 hG hL hst u1 u2 w0 r90 d102 msk c19 s53 P1 P2 P3 P5 P6 P7 len st0 xar hE hTa hVa a70 a71 hae oo q1 q2 q3 q4 hp0 ho12 hE1 hT1 b70 h12 x2F c70 c71 c53 c142 c17 q2D d6 dr hE2 hT2 hV2 hES e7 hq4 w1 w2 w3 w4 w5 w6 w8 w9 w10 hT4 m70 m71 hg1 hp1 e108 hsH hbdH hkkH haskH P4H xkH hkcH h01H w7a w7b w7c E2 z70 z71 z53 z142 zXF E3 pre2 zQN z13H E1 zT k1 h13 hE6 k1' dS3 n6 nr n102 n90 n104 nF hR1 f53 f142 v53 w8' fl7 hkO hb h0 hkf h5 kk0 h4 ht' hx hbd0 hsq ht3 ett p4 s1 s2 eMa le y21 y23 x y h1 h2; lia), hkf.1] at h1; (clear hn ho hV hW hK hQ hps hT hVT hE0 t4 t5 t6 hG hL hst u1 u2 w0 r90 d102 msk c19 s53 P1 P2 P3 P5 P6 P7 len st0 xar hE hTa hVa a70 a71 hae oo q1 q2 q3 q4 hp0 ho12 hE1 hT1 b70 h12 x2F c70 c71 c53 c142 c17 q2D d6 dr hE2 hT2 hV2 hES e7 hq4 w1 w2 w3 w4 w5 w6 w8 w9 w10 hT4 m70 m71 hg1 hp1 e108 hsH hbdH hkkH haskH P4H xkH hkcH h01H w7a w7b w7c E2 z70 z71 z53 z142 zXF E3 pre2 zQN z13H E1 zT k1 h13 hE6 k1' dS3 n6 nr n75 n102 n90 n104 nF hR1 f53 f142 v53 w8' fl7 hkO hb h0 hkf h5 kk0 h4 ht' hx hbd0 hsq ht3 ett p4 s1 s2 eMa le y21 y23 x y hk h2; omega)
        · rw [y23]
          refine ⟨fun h => .inl h, ?_⟩
          rintro (h | ⟨k, hk, h1, h2⟩)
          · exact h
          · rw [hD_75, n75] at hk
            rw [show k = Mq 6 75 by omega, hkf.1] at h1; (clear hn ho hV hW hK hQ hps hT hVT hE0 t4 t5 t6 hG hL hst u1 u2 w0 r90 d102 msk c19 s53 P1 P2 P3 P5 P6 P7 len st0 xar hE hTa hVa a70 a71 hae oo q1 q2 q3 q4 hp0 ho12 hE1 hT1 b70 h12 x2F c70 c71 c53 c142 c17 q2D d6 dr hE2 hT2 hV2 hES e7 hq4 w1 w2 w3 w4 w5 w6 w8 w9 w10 hT4 m70 m71 hg1 hp1 e108 hsH hbdH hkkH haskH P4H xkH hkcH h01H w7a w7b w7c E2 z70 z71 z53 z142 zXF E3 pre2 zQN z13H E1 zT k1 h13 hE6 k1' dS3 n6 nr n75 n102 n90 n104 nF hR1 f53 f142 v53 w8' fl7 hkO hb h0 hkf h5 kk0 h4 ht' hx hbd0 hsq ht3 ett p4 s1 s2 eMa le y21 y23 x y hk h2; lia)
    · rw [if_pos rfl]
      refine q_266 (by rw [n75]; (clear hn ho hk hK hQ hps hT hVT hE0 t5 t6 hG hL hst u1 u2 w0 r90 d102 msk c19 s53 P1 P2 P3 P5 P6 P7 len st0 xar hE hTa hVa a70 a71 hae oo q1 q2 q3 q4 hp0 ho12 hE1 hT1 b70 h12 x2F c70 c71 c53 c142 c17 q2D d6 dr hE2 hT2 hV2 hES e7 hq4 w1 w2 w3 w4 w5 w6 w8 w9 w10 hT4 m70 m71 hg1 hp1 e108 hsH hbdH hkkH haskH P4H xkH hkcH h01H w7a w7b w7c E2 z70 z71 z53 z142 zXF E3 pre2 zQN z13H E1 zT k1 h13 hE6 k1' dS3 n6 nr n102 n90 n104 nF hR1 f53 f142 v53 w8' fl7 hkO hq hV hW; lia)) (by rw [n75]; (clear hn ho hk hK hQ hps hT hVT hE0 t5 t6 hG hL hst u1 u2 w0 r90 d102 msk c19 s53 P1 P2 P3 P5 P6 P7 len st0 xar hE hTa hVa a70 a71 hae oo q1 q2 q3 q4 hp0 ho12 hE1 hT1 b70 h12 x2F c70 c71 c53 c142 c17 q2D d6 dr hE2 hT2 hV2 hES e7 hq4 w2 w3 w4 w5 w6 w8 w9 w10 hT4 m70 m71 hg1 hp1 e108 hsH hbdH hkkH haskH P4H xkH hkcH h01H w7a w7b w7c E2 z70 z71 z53 z142 zXF E3 pre2 zQN z13H E1 zT k1 hE6 k1' dS3 n6 nr n102 n90 n104 nF hR1 f53 f142 v53 w8' fl7 hkO hq hV hW; omega)) ?_
      have g102 : em_ (nx_ N5) 6 (Mx 71 a) 6 102 = Mq 6 102 := by rw [em_6 (by decide)]; exact n102
      rw [g102, w32_id (by (clear hn ho hk hK hQ hps hT hVT hE0 t4 t5 t6 hG hL hst u1 u2 w0 r90 msk c19 s53 P1 P2 P3 P5 P6 P7 len st0 xar hE hTa hVa a70 a71 hae oo q1 q2 q3 q4 hp0 ho12 hE1 hT1 b70 h12 x2F c70 c71 c53 c142 c17 q2D d6 dr hE2 hT2 hV2 hES e7 hq4 w1 w2 w3 w4 w5 w6 w8 w9 w10 hT4 m70 m71 hg1 hp1 e108 hsH hbdH hkkH haskH P4H xkH hkcH h01H w7a w7b w7c E2 z70 z71 z53 z142 zXF E3 pre2 zQN z13H E1 zT k1 h13 hE6 k1' dS3 n6 nr n75 n90 n104 nF hR1 f53 f142 v53 w8' fl7 hq hV hW; lia)) (by (clear hn ho hk hK hQ hps hT hVT hE0 t4 t5 t6 hG hL hst u1 u2 w0 r90 msk c19 s53 P1 P2 P3 P5 P6 P7 len st0 xar hE hTa hVa a70 a71 hae oo q1 q2 q3 q4 hp0 ho12 hE1 hT1 b70 h12 x2F c70 c71 c53 c142 c17 q2D d6 dr hE2 hT2 hV2 hES e7 hq4 w1 w2 w3 w4 w5 w6 w8 w9 w10 hT4 m70 m71 hg1 hp1 e108 hsH hbdH hkkH haskH P4H xkH hkcH h01H w7a w7b w7c E2 z70 z71 z53 z142 zXF E3 pre2 zQN z13H E1 zT k1 h13 hE6 k1' dS3 n6 nr n75 n90 n104 nF hR1 f53 f142 v53 w8' fl7 hq hV hW; lia))]
      have b14 : 0 ≤ Mq 6 102 ∧ Mq 6 102 < 14 := by (clear hn ho hk hK hQ hps hT hVT hE0 t4 t5 t6 hG hL hst u1 u2 w0 r90 msk c19 s53 P1 P2 P3 P5 P6 P7 len st0 xar hE hTa hVa a70 a71 hae oo q1 q2 q3 q4 hp0 ho12 hE1 hT1 b70 h12 x2F c70 c71 c53 c142 c17 q2D d6 dr hE2 hT2 hV2 hES e7 hq4 w1 w2 w3 w4 w5 w6 w8 w9 w10 hT4 m70 m71 hg1 hp1 e108 hsH hbdH hkkH haskH P4H xkH hkcH h01H w7a w7b w7c E2 z70 z71 z53 z142 zXF E3 pre2 zQN z13H E1 zT k1 h13 hE6 k1' dS3 n6 nr n75 n90 n104 nF hR1 f53 f142 v53 w8' fl7 hq hV hW; lia)
      refine ⟨by rw [n75]; (clear hn ho hk hK hQ hps hT hVT hE0 t5 t6 hG hL hst u1 u2 w0 r90 d102 msk c19 s53 P1 P2 P3 P5 P6 P7 len st0 xar hE hTa hVa a70 a71 hae oo q1 q2 q3 q4 hp0 ho12 hE1 hT1 b70 h12 x2F c70 c71 c53 c142 c17 q2D d6 dr hE2 hT2 hV2 hES e7 hq4 w2 w3 w4 w5 w6 w8 w9 w10 hT4 m70 m71 hg1 hp1 e108 hsH hbdH hkkH haskH P4H xkH hkcH h01H w7a w7b w7c E2 z70 z71 z53 z142 zXF E3 pre2 zQN z13H E1 zT k1 hE6 k1' dS3 n6 nr n102 n90 n104 nF hR1 f53 f142 v53 w8' fl7 hkO hq hV hW g102 b14; lia), b14, b14, b14, b14, b14, ⟨b14, .inl rfl⟩, ⟨b14, .inr rfl⟩, ?_⟩
      exact Tr_rv (Tr_le (by (clear hn ho hk hK hQ hps hT hVT hE0 t4 t5 t6 hG hL hst u1 u2 w0 r90 d102 msk c19 s53 P1 P2 P3 P5 P6 P7 len st0 xar hE hTa hVa a70 a71 hae oo q1 q2 q3 q4 hp0 ho12 hE1 hT1 b70 h12 x2F c70 c71 c53 c142 c17 q2D d6 dr hE2 hT2 hV2 hES e7 hq4 w1 w2 w3 w4 w5 w6 w8 w9 w10 hT4 m70 m71 hg1 hp1 e108 hsH hbdH hkkH haskH P4H xkH hkcH h01H w7a w7b w7c E2 z70 z71 z53 z142 zXF E3 pre2 zQN z13H E1 zT k1 h13 hE6 k1' dS3 n6 nr n75 n102 n90 n104 nF hR1 f53 f142 v53 w8' fl7 hkO hq hV hW g102 b14; lia)) hq)
  clear w10
  intro _
  have y8 := w4.2.2.2.2.2.2.1
  unfold Xn_ at main
  by_cases c : M4 1 8 = 0
  · rw [if_pos c]; rw [if_pos (.inl (by rw [← y8]; exact c))] at main; exact main
  · rw [if_neg c]
    have b1 : b = 1 := (hid_un h01H).resolve_left (fun e => c (by rw [y8]; exact e))
    have q := hid_un xkH b1
    by_cases c2 : s = 2
    · rw [if_pos c2]
      have k5 := q.mpr c2
      rw [if_neg (fun e => by
        rcases e with e | e
        · rw [b1] at e; exact absurd e (by decide)
        · rw [k5] at e; exact absurd e (by decide)), k5] at main
      exact x_116 hg1.1 (by have h9 := hg1.2.1; clear main; (clear hn ho hk hV hW hK hQ hps hT hVT hE0 t4 t5 t6 hG hL hst u1 u2 w0 r90 d102 msk c19 s53 P1 P2 P3 P5 P6 P7 len st0 xar hE hTa hVa a70 a71 oo q1 q2 q3 q4 hp0 ho12 hE1 hT1 b70 x2F c70 c71 c53 c142 c17 q2D d6 dr hE2 hT2 hV2 hS hES e7 hq4 dS2 w1 w2 w3 w4 w5 w6 w8 w9 hT4 m70 m71 hg1 hp1 e108 E1 E2 E3 pre2 z70 z71 z53 z142 zXF zQN zT hsH hbdH hkkH haskH P4H z13H xkH hkcH h01H w7a w7b w7c y8 c b1 q c2 k5 h9; omega)) (ER_fl w4).1 (ER_fl w4).2 main
    · rw [if_neg c2]
      have k0 : kk = 0 := by
        have hkk := hid_un hkkH
        by_cases c3 : bd = 0 ∧ t = 3
        · rw [if_pos c3] at hkk; exact absurd (q.mp hkk) c2
        · rw [if_neg c3] at hkk; exact hkk
      rw [if_pos (.inr k0)] at main; exact main
end DH
end T145_dh
section T146_dn
/-! a part of a decide more: what holds then -/
theorem RGL_k [Inhabited gh_] {Mx Mq : mm_} {q r0 r1 : Int} : ∀ (n : Nat) {c g : Int}, (∀ j : Int, 0 ≤ j → j ≤ n → (r0 ≤ g + j ∧ g + j < r1) ∧ RNG Mx Mq (c + 2 * j) (g + j) q) → (∀ j : Int, 0 ≤ j → j < n → Mq 219 (g + j) = g + j + 1) → RGL Mx Mq q r0 r1 n c g (g + n)
  | 0, c, g, h, _ => by
    have := h 0 (by omega) (by omega)
    rw [show g + 0 = g by (clear h this; omega), show c + 2 * 0 = c by omega] at this
    exact ⟨by omega, this.1, this.2⟩
  | n + 1, c, g, h, h2 => by
    have a := h 0 (by omega) (by (clear h h2; omega))
    rw [show g + 0 = g by omega, show c + 2 * 0 = c by omega] at a
    have b := h2 0 (by (clear h h2 a; lia)) (by omega)
    rw [show g + 0 = g by omega] at b
    refine ⟨a.1, a.2, by omega, ?_⟩
    rw [b, show g + ((n + 1 : Nat) : Int) = g + 1 + (n : Int) by omega]
    refine RGL_k n (fun j j0 j1 => ?_) (fun j j0 j1 => ?_)
    · have := h (j + 1) (by omega) (by omega)
      rw [show g + (j + 1) = g + 1 + j by omega, show c + 2 * (j + 1) = c + 2 + 2 * j by omega] at this
      exact this
    · have := h2 (j + 1) (by omega) (by (clear h h2 a b j0; omega))
      rw [show g + (j + 1) = g + 1 + j by omega] at this
      exact this
/-- X's memory where the part begins -/
def BPX (b : Int) (M Mp M' : mm_) (i : Int) : Prop := (∀ r : Nat, r ≠ 1 → r ≠ 5 → r ≠ 142 → Mp r = M r) ∧ Mp 5 3 = M 5 3 + (if b = 0 then 0 else 2 * i + 3) ∧ (∀ j, j < M 5 3 → Mp 142 j = M 142 j) ∧ (b = 1 → Mp 142 (M 5 3) = 43 ∧ Mp 142 (M 5 3 + 1) = i ∧ ∀ j, M 5 3 + 2 ≤ j → j < M 5 3 + 2 + 2 * i → Mp 142 j = M' 142 j)
/-- X's memory, Q's memory behind a part -/
def BX4 (b : Int) (M3 M4 : mm_) (sk x4 : Int) : Prop := (∀ r : Nat, r ≠ 5 → r ≠ 142 → M4 r = M3 r) ∧ (b = 0 → M4 = M3) ∧ (∀ i : Int, i ≠ 3 → M4 5 i = M3 5 i) ∧ (b = 1 → M4 5 3 = M3 5 3 + 2 ∧ M4 142 (M3 5 3) = 38 ∧ M4 142 (M3 5 3 + 1) = x4 ∧ M4 142 sk = M3 5 3 + 2 ∧ ∀ j, j ≠ sk → j < M3 5 3 → M4 142 j = M3 142 j)
def BQ4 (N3 N4 : mm_) (dd x5 : Int) : Prop := (∀ r : Nat, r ∉ [6, 203, 204, 205, 206, 207, 208, 210, 224, 226] → N4 r = N3 r) ∧ (∀ i : Int, i ≠ 75 → i ≠ 103 → N4 6 i = N3 6 i) ∧ N4 6 75 = N3 6 75 + 1 ∧ N4 6 103 = 0 ∧ (∀ r i, r ∈ opL → i ≠ N3 6 75 → N4 r i = N3 r i) ∧ (∀ r i, r ∈ dsR → i ≠ dd → N4 r i = N3 r i) ∧ N4 203 (N3 6 75) = 7 ∧ N4 206 (N3 6 75) = N3 224 dd ∧ N4 224 dd = N3 6 75 ∧ N4 226 dd = x5
section DN
variable {b F F' F2 : Int} {Mx Mq M N M0 M' N' Mp Np M3 N3 M4 N4 : mm_} {a0 a a1 a2 a3 o me x2 x3 x4 x5 i v : Int} {mm : Nat}
/-- Q's memory where the part begins -/
def BPQ (N' Np : mm_) : Prop := (∀ r : Nat, r ≠ 6 → Np r = N' r) ∧ (∀ i : Int, i ≠ 12 → i ≠ 103 → Np 6 i = N' 6 i) ∧ Np 6 103 = 0
theorem DHS_p [Inhabited gh_] (hp : PS b F Mx Mq a0 o me) (h : DHS b F F' Mx Mq M N a0 a o me x2 x3 x4 x5 mm) (hB : BLR b F' M0 N M' N' a a1 (o + 1) (Mq 6 102) i) (hi : 1 ≤ i) (hai : a + 2 * i ≤ a1 + 1) (h0x : ∀ r : Nat, r ≠ 5 → r ≠ 142 → M0 r = M r)
    (hX : BPX b M Mp M' i) (hQ : BPQ N' Np) (hxf : XF M Mp) (hE : ER b F' Mp Np a2 (o + 1)) (ha : a1 < a2) (h7 : Mp 1 7 = M' 1 7) : PRD b F F' Mx Mq Mp Np a0 a2 o (o + 1) me ∧ PS b F' Mp Np a2 (o + 1) me := by
  obtain ⟨d1, d2, ⟨d3, d4, d5, d6, d7, d8, d9, d10, d11⟩, d12, d13, d14, d15, d16⟩ := h
  obtain ⟨h1, h2, h3, ⟨h4, h5, h6, h7'⟩, ⟨g1, g2, g3, g4⟩, ⟨k1, k2⟩, k3, ⟨k4, k5⟩, k6, k7⟩ := hB
  obtain ⟨x1, x2', x3', x4'⟩ := hX
  obtain ⟨q1, q2, q3⟩ := hQ
  have pb := PRD_PB d1
  obtain ⟨p1, p2, p3, p4, p5, p6⟩ := pb
  have r6 : ∀ r : Nat, r ∉ [6, 206, 216, 217, 218, 219, 221, 222] → Np r = N r := fun r hr => by rw [q1 r (fun e => hr (by rw [e]; decide)), h4 r hr]
  have i6 : ∀ j : Int, j ≠ 12 → j ≠ 13 → j ≠ 14 → j ≠ 90 → j ≠ 103 → Np 6 j = N 6 j := fun j a b c d e => by rw [q2 j a e, h5 j a b c d]
  have n90 : Np 6 90 = N 6 90 + i := by rw [q2 90 (by decide) (by decide)]; exact g1
  have hb1 := hp.2.2.2.2.2.2.1
  have hb2 := hp.1.2.2.2.1
  have hb3 := hp.2.2.2.2.2.2.2.1
  have y7 : M0 1 7 = M 1 7 := by rw [h0x 1 (by decide) (by decide)]
  have qd : QD N Np := by
    refine ⟨fun r hr => r6 r (fun e => hr (by revert e; unfold qdL; simp only [List.mem_cons, List.not_mem_nil, or_false]; (clear hp hi hai h0x hxf hE ha h7 d1 d2 d3 d4 d5 d6 d7 d8 d9 d10 d11 d12 d13 d14 d15 d16 h1 h2 h3 h4 h5 h6 h7' g1 g2 g3 g4 k1 k2 k3 k4 k5 k6 k7 x1 x2' x3' x4' q1 q2 q3 p1 p2 p3 p4 p5 p6 r6 i6 n90 hb1 hb2 hb3 y7 hr; lia))), fun j hj => i6 j (nm_i hj (by decide)) (nm_i hj (by decide)) (nm_i hj (by decide)) (nm_i hj (by decide)) (nm_i hj (by decide))⟩
  have s53 : Mp 5 3 ≤ M 5 3 + 2 * i + 3 ∧ M 5 3 ≤ Mp 5 3 := by rw [x2']; split <;> (clear hp hai h0x hxf hE ha h7 d1 d2 d3 d4 d5 d6 d7 d8 d9 d10 d11 d12 d13 d14 d15 d16 h1 h2 h4 h5 h6 h7' g2 g3 g4 k1 k2 k3 k4 k5 k6 k7 x1 x2' x3' x4' q1 q2 q3 p1 p2 p3 p4 p5 p6 r6 i6 hb1 hb2 hb3 y7 qd; lia)
  have P : PRD b F F' Mx Mq Mp Np a0 a2 o (o + 1) me := by
    refine PRD_s d1 hE hxf qd ⟨fun j x y => x3' j (by (clear hp hi hai h0x hxf hE ha h7 d1 d2 d3 d4 d5 d6 d7 d8 d9 d10 d11 d12 d13 d14 d15 d16 h1 h2 h3 h4 h5 h6 h7' g1 g2 g3 g4 k1 k2 k3 k4 k5 k6 k7 x1 x2' x3' x4' q1 q2 q3 p1 p2 p3 p5 p6 r6 i6 n90 hb1 hb2 hb3 y7 qd s53 x; omega)), fun r j hr x y => ?_, fun j x y => by rw [r6 209 (by decide)], fun j x y => by rw [r6 227 (by decide), r6 228 (by decide)]; exact ⟨rfl, rfl⟩, fun r j hr x y => ?_, fun r j hr x y => ?_⟩ ⟨by (clear hp h0x hxf hE h7 d1 d2 d3 d4 d5 d6 d7 d8 d9 d10 d11 d12 d13 d14 d15 d16 h1 h2 h4 h5 h6 h7' g2 g3 g4 k1 k2 k3 k4 k5 k6 k7 x1 x2' x3' x4' q1 q2 q3 p1 p2 p4 p5 p6 r6 i6 hb1 hb2 hb3 y7 qd s53; lia), by rw [i6 75 (by decide) (by decide) (by decide) (by decide) (by decide)]; (clear hp h0x hxf hE h7 d1 d2 d3 d4 d5 d6 d7 d8 d9 d10 d11 d13 d14 d15 d16 h1 h2 h4 h5 h6 h7' g2 g3 g4 k1 k2 k3 k4 k5 k6 k7 x1 x2' x3' x4' q1 q2 q3 p1 p3 p4 p5 p6 r6 i6 hb1 hb2 hb3 y7 qd s53; lia), by rw [i6 104 (by decide) (by decide) (by decide) (by decide) (by decide)]; (clear hp h0x hxf hE h7 d1 d2 d3 d4 d5 d6 d7 d8 d9 d10 d11 d12 d13 d14 d15 d16 h1 h2 h4 h5 h6 h7' g2 g3 g4 k1 k2 k3 k4 k5 k6 k7 x1 x2' x3' x4' q1 q2 q3 p1 p2 p4 p5 p6 r6 i6 hb1 hb2 hb3 y7 qd s53; lia), ⟨by (clear hp hi hai h0x hxf hE ha h7 d1 d2 d3 d4 d5 d6 d7 d8 d9 d10 d11 d12 d13 d14 d15 d16 h1 h2 h3 h4 h5 h6 h7' g1 g2 g3 g4 k1 k2 k3 k4 k5 k6 k7 x1 x3' x4' q1 q2 q3 p1 p2 p3 p5 p6 r6 i6 n90 hb1 hb2 hb3 y7 qd; omega), by (clear hp h0x hxf hE h7 d1 d2 d3 d4 d5 d6 d7 d8 d9 d10 d11 d12 d13 d14 d15 d16 h1 h2 h4 h5 h6 h7' g2 g3 g4 k1 k2 k3 k4 k5 k6 k7 x1 x3' x4' q1 q2 q3 p1 p2 p3 p5 p6 r6 i6 hb1 hb2 hb3 y7 qd; lia), fun hb => by rw [x2', if_pos hb, p4.2.2 hb]; (clear hp hi hai h0x hxf hE ha h7 d1 d2 d3 d4 d5 d6 d7 d8 d9 d10 d11 d12 d13 d14 d15 d16 h1 h2 h3 h4 h5 h6 h7' g1 g2 g3 g4 k1 k2 k3 k4 k5 k6 k7 x1 x2' x3' x4' q1 q2 q3 p1 p2 p3 p4 p5 p6 r6 i6 n90 hb1 hb2 hb3 y7 qd s53 hb; lia)⟩, by (clear hp h0x hxf hE h7 d1 d2 d3 d4 d5 d6 d7 d8 d9 d10 d11 d12 d13 d14 d15 d16 h1 h2 h4 h5 h6 h7' g2 g3 g4 k1 k2 k3 k4 k5 k6 k7 x1 x2' x3' x4' q1 q2 q3 p1 p2 p3 p4 p6 r6 i6 hb1 hb2 hb3 y7 qd s53; lia), by (clear hp h0x hxf hE d1 d2 d3 d4 d5 d6 d7 d8 d9 d10 d11 d12 d13 d14 d15 d16 h1 h2 h4 h5 h6 h7' g2 g3 g4 k1 k2 k3 k4 k5 k7 x1 x2' x3' x4' q1 q2 q3 p1 p2 p3 p4 p5 r6 i6 hb1 hb2 hb3 qd s53; lia)⟩ (by (clear hp h0x hxf hE h7 d1 d2 d3 d4 d5 d6 d7 d8 d9 d10 d11 d12 d13 d14 d15 d16 h1 h2 h4 h5 h6 h7' g2 g3 g4 k1 k2 k3 k4 k5 k6 k7 x1 x2' x3' x4' q1 q2 q3 p1 p2 p3 p4 p5 p6 r6 i6 hb1 hb2 hb3 y7 qd s53; lia))
    · by_cases c : r = 206
      · rw [c, q1 206 (by decide), h6 j (by rw [d3]; (clear hp hi hai h0x hxf hE ha h7 d1 d2 d3 d4 d5 d6 d7 d8 d9 d10 d11 d12 d13 d14 d15 d16 h1 h2 h3 h4 h5 h6 h7' g1 g2 g3 g4 k1 k2 k3 k4 k5 k6 k7 x1 x2' x3' x4' q1 q2 q3 p1 p2 p3 p4 p5 p6 r6 i6 n90 hb1 hb2 hb3 y7 qd s53 hr x c; lia))]
      · rw [r6 r (by unfold opL at hr; simp only [List.mem_cons, List.not_mem_nil, or_false] at hr ⊢; (clear hp hi hai h0x hxf hE ha h7 d1 d2 d3 d4 d5 d6 d7 d8 d9 d10 d11 d12 d13 d14 d15 d16 h1 h2 h3 h4 h5 h6 h7' g1 g2 g3 g4 k1 k2 k3 k4 k5 k6 k7 x1 x2' x3' x4' q1 q2 q3 p1 p2 p3 p4 p5 p6 r6 i6 n90 hb1 hb2 hb3 y7 qd s53 x y; omega))]
    · rw [q1 r (fun e => absurd hr (by rw [e]; decide))]
      have q := k1 j (by (clear hp hi hai h0x hxf hE ha h7 d1 d2 d3 d4 d5 d6 d7 d8 d9 d10 d11 d12 d13 d14 d15 d16 h1 h2 h3 h4 h5 h6 h7' g1 g2 g3 g4 k1 k2 k3 k4 k5 k6 k7 x1 x2' x3' x4' q1 q2 q3 p1 p2 p3 p4 p6 r6 i6 n90 hb1 hb2 hb3 y7 qd s53 hr x; omega))
      unfold rgR at hr
      simp only [List.mem_cons, List.not_mem_nil, or_false] at hr
      rcases hr with e | e | e | e
      · rw [e]; exact q.1
      · rw [e]; exact q.2.1
      · rw [e]; exact q.2.2.1
      · rw [e]
        refine q.2.2.2 (fun e2 => ?_)
        have := d7 (by (clear hp hi hai h0x hxf hE ha h7 d1 d2 d3 d4 d5 d6 d7 d8 d9 d10 d11 d12 d13 d14 d15 d16 h1 h2 h3 h4 h5 h6 h7' g1 g2 g3 g4 k1 k2 k3 k4 k5 k6 k7 x1 x2' x3' x4' q1 q2 q3 p1 p2 p3 p4 p5 p6 r6 i6 n90 hb1 hb2 hb3 y7 qd s53 y q e; lia))
        (clear hp hi hai h0x hxf hE ha h7 d1 d2 d3 d4 d5 d6 d7 d8 d9 d10 d11 d12 d13 d14 d15 d16 h1 h2 h3 h4 h5 h6 h7' g1 g2 g3 g4 k1 k2 k3 k4 k5 k6 k7 x1 x2' x3' x4' q1 q2 q3 p1 p2 p3 p4 p5 p6 r6 i6 n90 hb1 hb2 hb3 y7 qd s53 x q e; omega)
    · rw [q1 r (fun e => absurd hr (by rw [e]; decide))]
      by_cases c : r = 221 ∨ r = 222
      · have q := h7' j (by (clear hp hi hai h0x hxf hE ha h7 d1 d2 d3 d4 d5 d6 d7 d8 d9 d10 d11 d12 d13 d14 d15 d16 h1 h2 h3 h4 h5 h6 h7' g1 g2 g3 g4 k1 k2 k3 k4 k5 k6 k7 x1 x2' x3' x4' q1 q2 q3 p1 p2 p3 p4 p5 p6 r6 i6 n90 hb1 hb2 hb3 y7 qd s53 hr x c; lia))
        rcases c with c | c
        · rw [c]; exact q.1
        · rw [c]; exact q.2
      · rw [h4 r (by unfold dsR at hr; simp only [List.mem_cons, List.not_mem_nil, or_false] at hr ⊢; (clear hp hi hai h0x hxf hE ha h7 d1 d2 d3 d4 d5 d6 d7 d8 d9 d10 d11 d12 d13 d14 d15 d16 h1 h2 h3 h4 h5 h6 h7' g1 g2 g3 g4 k1 k2 k3 k4 k5 k6 k7 x1 x2' x3' x4' q1 q2 q3 p1 p2 p3 p4 p5 p6 r6 i6 n90 hb1 hb2 hb3 y7 qd s53 x y; lia))]
  refine ⟨P, PS_D hp P (by (clear hp hi hai h0x hxf hE ha h7 d1 d2 d3 d4 d5 d6 d7 d8 d9 d10 d11 d12 d13 d14 d15 d16 h1 h2 h3 h4 h5 h6 h7' g1 g2 g3 g4 k1 k2 k3 k4 k5 k6 k7 x1 x2' x3' x4' q1 q2 q3 p1 p2 p3 p4 p5 p6 r6 i6 n90 hb1 hb2 hb3 y7 qd s53 P; lia)) ?_⟩
  rw [i6 102 (by decide) (by decide) (by decide) (by decide) (by decide), d2]
  (clear hp hi hai h0x hxf hE ha h7 d1 d2 d3 d4 d5 d6 d7 d8 d9 d10 d11 d12 d13 d14 d15 d16 h1 h2 h3 h4 h5 h6 h7' g1 g2 g3 g4 k1 k2 k3 k4 k5 k6 k7 x1 x2' x3' x4' q1 q2 q3 p1 p2 p3 p4 p5 p6 r6 i6 n90 hb1 hb2 y7 qd s53 P; omega)
theorem DHS_n [Inhabited gh_] (hp : PS b F Mx Mq a0 o me) (h : DHS b F F' Mx Mq M N a0 a o me x2 x3 x4 x5 mm) (hB : BLR b F' M0 N M' N' a a1 (o + 1) (Mq 6 102) i) (hi : 1 ≤ i) (hai : a + 2 * i ≤ a1 + 1) (h053 : M0 5 3 = M 5 3 + (if b = 0 then 0 else 2)) (ha : a1 < a2)
    (hX : BPX b M Mp M' i) (hQ : BPQ N' Np) (hxf : XF M Mp) (hP : PRD b F F' Mx Mq Mp Np a0 a2 o (o + 1) me) (hS : PS b F' Mp Np a2 (o + 1) me) (hR : PRC b F' F2 Mp Np M3 N3 a2 a3 (o + 1) (o + 1) me) (hM : SEM b Mp Np M3 N3 v) (hv : v = 0 ∨ v = 1)
    (hX4 : BX4 b M3 M4 (M 5 3 + 2 * i + 2) x4) (hQ4 : BQ4 N3 N4 (Mq 6 102) (if x5 = 0 ∨ v = 0 then 0 else 1)) (hE4 : ER b F2 M4 N4 a3 (o + 1)) (hx8 : x3 + i ≤ 8) : DHS b F F2 Mx Mq M4 N4 a0 a3 o me x2 (x3 + i) (if b = 0 then M3 5 3 else M3 5 3 + 1) (if x5 = 0 ∨ v = 0 then 0 else 1) (mm + 1) := by
  have h01 := bl01 hE4
  obtain ⟨d1, d2, ⟨d3, d4, d5, d6, d7, d8, d9, d10, d11⟩, d12, d13, d14, d15, d16⟩ := h
  obtain ⟨h1, h2, h3, ⟨h4, h5, h6, h7'⟩, ⟨g1, g2, g3, g4⟩, ⟨k1, k2⟩, k3, ⟨k4, k5⟩, k6, k7⟩ := hB
  obtain ⟨x1, x2', x3', x4'⟩ := hX
  obtain ⟨q1, q2, q3⟩ := hQ
  obtain ⟨y1, y2, y3, y4⟩ := hX4
  obtain ⟨z1, z2, z3, z4, z5, z6, z7, z8, z9, z10⟩ := hQ4
  have r6 : ∀ r : Nat, r ∉ [6, 206, 216, 217, 218, 219, 221, 222] → Np r = N r := fun r hr => by rw [q1 r (fun e => hr (by rw [e]; decide)), h4 r hr]
  have i6 : ∀ j : Int, j ≠ 12 → j ≠ 13 → j ≠ 14 → j ≠ 90 → j ≠ 103 → Np 6 j = N 6 j := fun j a b c d e => by rw [q2 j a e, h5 j a b c d]
  have n90 : Np 6 90 = N 6 90 + i := by rw [q2 90 (by decide) (by decide)]; exact g1
  have n75 : Np 6 75 = N 6 75 := i6 75 (by decide) (by decide) (by decide) (by decide) (by decide)
  have n104 : Np 6 104 = N 6 104 := i6 104 (by decide) (by decide) (by decide) (by decide) (by decide)
  have n102 : Np 6 102 = Mq 6 102 + 1 := by rw [i6 102 (by decide) (by decide) (by decide) (by decide) (by decide)]; exact d2
  have a75 := hp.1.2.2.2.1
  have a90 := hp.2.2.2.2.2.2.1
  have a102 := hp.2.2.2.2.2.2.2.1.1
  have a53 := (ER_st hp.1.2.2.1).1
  have hP3 := PRD_tr a75.1 (by (clear hp hi hai h053 ha hxf hP hS hR hM hv hE4 hx8 h01 d1 d2 d3 d4 d5 d6 d7 d8 d9 d10 d11 d12 d13 d14 d15 d16 h1 h2 h3 h4 h5 h6 h7' g1 g2 g3 g4 k1 k2 k3 k4 k5 k6 k7 x1 x2' x3' x4' q1 q2 q3 y1 y2 y3 y4 z1 z2 z3 z4 z5 z6 z7 z8 z9 z10 r6 i6 n90 n75 n104 a75 a90 a102 a53; omega)) hP hR
  obtain ⟨p1, p2, p3, p4, p5, p6⟩ := PRD_PB d1
  have hR' := hR
  obtain ⟨f1, e1, ⟨xx, qq⟩, ⟨⟨c1, c2, c3, c4, c5, c6, c7⟩, w1, w2, w3, w4⟩, ⟨s1, s2, s3, s4, s5, s6⟩, lbt, msk, t1, t2, t3⟩ := hR
  have e90 : N4 6 90 = N3 6 90 := z2 90 (by decide) (by decide)
  have e104 : N4 6 104 = N3 6 104 := z2 104 (by decide) (by decide)
  have e13 : N4 6 13 = N3 6 13 := z2 13 (by decide) (by decide)
  have m19 : Mp 1 19 = M 1 19 := hxf.2.1 19 (by decide) (by decide) (by decide) (by decide) (by decide)
  have m419 : M4 1 19 = M3 1 19 := by rw [y1 1 (by decide) (by decide)]
  have s53 : Mp 5 3 ≤ M 5 3 + 2 * i + 3 ∧ M 5 3 ≤ Mp 5 3 := by rw [x2']; split <;> (clear hp hai h053 ha hxf hP hS hM hv hE4 hx8 h01 d1 d2 d3 d4 d5 d6 d7 d8 d9 d10 d11 d12 d13 d14 d15 d16 h1 h2 h4 h5 h6 h7' g2 g3 g4 k1 k2 k3 k4 k5 k6 k7 x1 x2' x3' x4' q1 q2 q3 y1 y2 y3 y4 z1 z2 z3 z4 z5 z6 z7 z8 z9 z10 r6 i6 n75 n104 n102 a75 a90 a102 a53 hP3 p1 p2 p3 p4 p5 p6 hR' f1 e1 xx qq c1 c2 c3 c4 c5 c6 c7 w1 w2 w3 w4 s1 s2 s3 s4 s5 s6 lbt msk t1 t2 t3 e90 e104 e13 m19 m419; lia)
  have m453 : M3 5 3 ≤ M4 5 3 ∧ M4 5 3 ≤ M3 5 3 + 2 := by
    rcases h01 with hb | hb
    · rw [y2 hb]; (clear hp hi hai h053 ha hxf hP hS hM hv hE4 hx8 d1 d2 d3 d4 d5 d6 d7 d8 d9 d10 d11 d12 d13 d14 d15 d16 h1 h2 h3 h4 h5 h6 h7' g1 g2 g3 g4 k1 k2 k3 k4 k5 k6 k7 x1 x2' x3' x4' q1 q2 q3 y1 y2 y3 y4 z1 z2 z3 z4 z5 z6 z7 z8 z9 z10 r6 i6 n90 n75 n104 n102 a75 a90 a102 a53 hP3 p1 p2 p3 p4 p5 p6 hR' f1 e1 xx qq c1 c2 c3 c4 c5 c6 c7 w1 w2 w3 w4 s1 s2 s3 s4 s5 s6 lbt msk t1 t2 t3 e90 e104 e13 m19 m419 s53 hb; lia)
    · rw [(y4 hb).1]; (clear hp hi hai h053 ha hxf hP hS hM hv hE4 hx8 d1 d2 d3 d4 d5 d6 d7 d8 d9 d10 d11 d12 d13 d14 d15 d16 h1 h2 h3 h4 h5 h6 h7' g1 g2 g3 g4 k1 k2 k3 k4 k5 k6 k7 x1 x2' x3' x4' q1 q2 q3 y1 y2 y3 y4 z1 z2 z3 z4 z5 z6 z7 z8 z9 z10 r6 i6 n90 n75 n104 n102 a75 a90 a102 a53 hP3 p1 p2 p3 p4 p5 p6 hR' f1 e1 xx qq c1 c2 c3 c4 c5 c6 c7 w1 w2 w3 w4 s1 s2 s3 s4 s5 s6 lbt msk t1 t2 t3 e90 e104 e13 m19 m419 s53 hb; lia)
  -- old cells
  have oX : ∀ j, 0 ≤ j → j < M 5 3 → M4 142 j = M 142 j := fun j x y => by
    rcases h01 with hb | hb
    · rw [y2 hb, c1 j x (by (clear hp hi hai ha hxf hP hS hM hv hE4 hx8 d1 d2 d3 d4 d5 d6 d7 d8 d9 d10 d11 d12 d13 d14 d15 d16 h1 h2 h3 h4 h5 h6 h7' g1 g2 g3 g4 k1 k2 k3 k5 k6 k7 x1 x3' x4' q1 q2 q3 y1 y2 y3 y4 z1 z2 z3 z4 z5 z6 z7 z8 z9 z10 r6 i6 n90 n75 n104 n102 a75 a90 a102 a53 hP3 p1 p2 p3 p4 p5 p6 hR' f1 e1 xx qq c1 c2 c3 c4 c5 c6 c7 w1 w2 w3 w4 s1 s2 s3 s4 s5 s6 lbt msk t1 t2 t3 e90 e104 e13 m19 m419 m453 x hb; omega)), x3' j y]
    · rw [(y4 hb).2.2.2.2 j (by (clear hp hai ha hxf hP hS hM hv hE4 hx8 d1 d2 d3 d4 d5 d6 d7 d8 d9 d10 d11 d12 d13 d14 d15 d16 h1 h2 h4 h5 h6 h7' g2 g3 g4 k1 k2 k3 k5 k6 k7 x1 x3' x4' q1 q2 q3 y1 y2 y3 y4 z1 z2 z3 z4 z5 z6 z7 z8 z9 z10 r6 i6 n75 n104 n102 a75 a90 a102 a53 hP3 p1 p2 p3 p4 p5 p6 hR' f1 e1 xx qq c1 c2 c3 c4 c5 c6 c7 w1 w2 w3 w4 s1 s2 s3 s4 s5 s6 lbt msk t1 t2 t3 e90 e104 e13 m19 m419 s53 m453 x hb; lia)) (by (clear hp hi hai ha hxf hP hS hM hv hE4 hx8 d1 d2 d3 d4 d5 d6 d7 d8 d9 d10 d11 d12 d13 d14 d15 d16 h1 h2 h3 h4 h5 h6 h7' g1 g2 g3 g4 k1 k2 k3 k5 k6 k7 x1 x3' x4' q1 q2 q3 y1 y2 y3 y4 z1 z2 z3 z4 z5 z6 z7 z8 z9 z10 r6 i6 n90 n75 n104 n102 a75 a90 a102 a53 hP3 p1 p2 p3 p4 p5 p6 hR' f1 e1 xx qq c1 c2 c3 c4 c5 c6 c7 w1 w2 w3 w4 s1 s2 s3 s5 s6 lbt msk t1 t2 t3 e90 e104 e13 m19 m419 m453 x hb; omega)), c1 j x (by omega), x3' j y]
  have oO : ∀ r j, r ∈ opL → 0 ≤ j → j < N 6 75 → (j ≠ Mq 6 75 ∨ r ≠ 206) → N4 r j = N r j := fun r j hr x y hn => by
    rw [z5 r j hr (by (clear hp hi hai h053 ha hxf hP hS hM hv hE4 hx8 h01 d1 d2 d3 d4 d5 d6 d7 d8 d9 d10 d11 d12 d13 d14 d15 d16 h1 h2 h3 h4 h5 h6 h7' g1 g2 g3 g4 k1 k2 k3 k4 k5 k6 k7 x1 x2' x3' x4' q1 q2 q3 y1 y2 y3 y4 z1 z2 z3 z4 z5 z6 z7 z8 z10 r6 i6 n90 n104 n102 a75 a90 a102 a53 hP3 p1 p2 p3 p4 p5 p6 hR' f1 e1 xx qq c1 c2 c3 c4 c5 c6 c7 w1 w2 w3 w4 s1 s3 s4 s5 s6 lbt msk t1 t2 t3 e90 e104 e13 m19 m419 s53 m453 oX hr x hn; lia)), c2 r j hr x (by (clear hp hi hai h053 ha hxf hP hS hM hv hE4 hx8 h01 d1 d2 d3 d4 d5 d6 d7 d8 d9 d10 d11 d12 d13 d14 d15 d16 h1 h2 h3 h4 h5 h6 h7' g1 g2 g3 g4 k1 k2 k3 k4 k5 k6 k7 x1 x2' x3' x4' q1 q2 q3 y1 y2 y3 y4 z1 z2 z3 z4 z5 z6 z7 z8 z9 z10 r6 i6 n90 n104 n102 a75 a90 a102 a53 hP3 p1 p2 p3 p4 p5 p6 hR' f1 e1 xx qq c1 c2 c3 c4 c5 c6 c7 w1 w2 w3 w4 s1 s2 s3 s4 s5 s6 lbt msk t1 t2 t3 e90 e104 e13 m19 m419 s53 m453 oX hr x hn; omega))]
    by_cases c : r = 206
    · rw [c, q1 206 (by decide), h6 j (by rw [d3]; (clear hp hi hai h053 ha hxf hP hS hM hv hE4 hx8 h01 d1 d2 d3 d4 d5 d6 d7 d8 d9 d10 d11 d12 d13 d14 d15 d16 h1 h2 h3 h4 h5 h6 h7' g1 g2 g3 g4 k1 k2 k3 k4 k5 k6 k7 x1 x2' x3' x4' q1 q2 q3 y1 y2 y3 y4 z1 z2 z3 z4 z5 z6 z7 z8 z9 z10 r6 i6 n90 n75 n104 n102 a75 a90 a102 a53 hP3 p1 p2 p3 p4 p5 p6 hR' f1 e1 xx qq c1 c2 c3 c4 c5 c6 c7 w1 w2 w3 w4 s1 s2 s3 s4 s5 s6 lbt msk t1 t2 t3 e90 e104 e13 m19 m419 s53 m453 oX hr x y; lia))]
    · rw [r6 r (by unfold opL at hr; simp only [List.mem_cons, List.not_mem_nil, or_false] at hr ⊢; (clear hp hi hai h053 ha hxf hP hS hM hv hE4 hx8 h01 d1 d2 d3 d4 d5 d6 d7 d8 d9 d10 d11 d12 d13 d14 d15 d16 h1 h2 h3 h4 h5 h6 h7' g1 g2 g3 g4 k1 k2 k3 k4 k5 k6 k7 x1 x2' x3' x4' q1 q2 q3 y1 y2 y3 y4 z1 z2 z3 z4 z5 z6 z7 z8 z9 z10 r6 i6 n90 n75 n104 n102 a75 a90 a102 a53 hP3 p1 p2 p3 p4 p5 p6 hR' f1 e1 xx qq c1 c2 c3 c4 c5 c6 c7 w1 w2 w3 w4 s1 s2 s3 s4 s5 s6 lbt msk t1 t2 t3 e90 e104 e13 m19 m419 s53 m453 oX x y hn; omega))]
  have oK : N4 206 (Mq 6 75) = if N 222 (Mq 6 102) < 0 then N 6 90 else N 206 (Mq 6 75) := by
    rw [z5 206 _ (by decide) (by (clear hp hi hai h053 ha hxf hP hS hM hv hE4 hx8 h01 d1 d2 d3 d4 d5 d6 d7 d8 d9 d10 d11 d13 d14 d15 d16 h1 h2 h3 h4 h5 h6 h7' g1 g2 g3 g4 k1 k2 k3 k4 k5 k6 k7 x1 x2' x3' x4' q1 q2 q3 y1 y2 y3 y4 z1 z2 z3 z4 z5 z6 z7 z8 z10 r6 i6 n90 n104 n102 a75 a90 a102 a53 hP3 p1 p2 p3 p4 p5 p6 hR' f1 e1 xx qq c1 c2 c3 c4 c5 c6 c7 w1 w2 w3 w4 s1 s3 s4 s5 s6 lbt msk t1 t2 t3 e90 e104 e13 m19 m419 s53 m453 oX oO; omega)), c2 206 _ (by decide) (by (clear hp hi hai h053 ha hxf hP hS hM hv hE4 hx8 h01 d1 d2 d3 d4 d5 d6 d7 d8 d9 d10 d11 d12 d13 d14 d15 d16 h1 h2 h3 h4 h5 h6 h7' g1 g2 g3 g4 k1 k2 k3 k4 k5 k6 k7 x1 x2' x3' x4' q1 q2 q3 y1 y2 y3 y4 z1 z2 z3 z4 z5 z6 z7 z8 z9 z10 r6 i6 n90 n75 n104 n102 a90 a102 a53 hP3 p1 p2 p3 p4 p5 p6 hR' f1 e1 xx qq c1 c2 c3 c4 c5 c6 c7 w1 w2 w3 w4 s1 s2 s3 s4 s5 s6 lbt msk t1 t2 t3 e90 e104 e13 m19 m419 s53 m453 oX oO; omega)) (by omega), q1 206 (by decide)]
    rw [d3] at g4
    rw [g4]
    by_cases c : N 222 (Mq 6 102) < 0
    · rw [if_neg (by (clear hp hai h053 ha hxf hP hS hM hv hE4 hx8 h01 d1 d2 d3 d4 d5 d7 d8 d9 d10 d11 d12 d13 d14 d15 d16 h1 h2 h4 h5 h6 h7' g2 g3 g4 k1 k2 k3 k4 k5 k6 k7 x1 x2' x3' x4' q1 q2 q3 y1 y2 y3 y4 z1 z2 z3 z4 z5 z6 z7 z8 z9 z10 r6 i6 n75 n104 n102 a75 a90 a102 a53 hP3 p1 p2 p3 p4 p5 p6 hR' f1 e1 xx qq c1 c2 c3 c4 c5 c6 c7 w1 w2 w3 w4 s1 s2 s3 s4 s5 s6 lbt msk t1 t2 t3 e90 e104 e13 m19 m419 s53 m453 oX oO; lia)), if_pos c]
    · rw [if_pos (.inr (by (clear hp hi hai h053 ha hxf hP hS hM hv hE4 hx8 h01 d1 d2 d3 d4 d5 d6 d7 d8 d9 d10 d11 d12 d13 d14 d15 d16 h1 h2 h3 h4 h5 h6 h7' g1 g2 g3 g4 k1 k2 k3 k4 k5 k6 k7 x1 x2' x3' x4' q1 q2 q3 y1 y2 y3 y4 z1 z2 z3 z4 z5 z6 z7 z8 z9 z10 r6 i6 n90 n75 n104 n102 a75 a90 a102 a53 hP3 p1 p2 p3 p4 p5 p6 hR' f1 e1 xx qq c1 c2 c3 c4 c5 c6 c7 w1 w2 w3 w4 s1 s2 s3 s4 s5 s6 lbt msk t1 t2 t3 e90 e104 e13 m19 m419 s53 m453 oX oO; lia))), if_neg c]
  have oD : ∀ r, r ∈ dsR → r ≠ 221 → r ≠ 222 → r ≠ 224 → r ≠ 226 → N4 r (Mq 6 102) = N r (Mq 6 102) := fun r hr a1' a2' a3' a4' => by
    rw [z1 r (by unfold dsR at hr; simp only [List.mem_cons, List.not_mem_nil, or_false] at hr ⊢; (clear hp hi hai h053 ha hxf hP hS hM hv hE4 hx8 h01 d1 d2 d3 d4 d5 d6 d7 d8 d9 d10 d11 d12 d13 d14 d15 d16 h1 h2 h3 h4 h5 h6 h7' g1 g2 g3 g4 k1 k2 k3 k4 k5 k6 k7 x1 x2' x3' x4' q1 q2 q3 y1 y2 y3 y4 z1 z2 z3 z4 z5 z6 z7 z8 z9 z10 r6 i6 n90 n75 n104 n102 a75 a90 a102 a53 hP3 p1 p2 p3 p4 p5 p6 hR' f1 e1 xx qq c1 c2 c3 c4 c5 c6 c7 w1 w2 w3 w4 s1 s2 s3 s4 s5 s6 lbt msk t1 t2 t3 e90 e104 e13 m19 m419 s53 m453 oX oO oK a1' a2'; omega)), c6 r _ hr (by omega) (by omega), r6 r (by unfold dsR at hr; simp only [List.mem_cons, List.not_mem_nil, or_false] at hr ⊢; (clear hp hi hai h053 ha hxf hP hS hM hv hE4 hx8 h01 d1 d2 d3 d4 d5 d6 d7 d8 d9 d10 d11 d12 d13 d14 d15 d16 h1 h2 h3 h4 h5 h6 h7' g1 g2 g3 g4 k1 k2 k3 k4 k5 k6 k7 x1 x2' x3' x4' q1 q2 q3 y1 y2 y3 y4 z1 z2 z3 z4 z5 z6 z7 z8 z9 z10 r6 i6 n90 n75 n104 n102 a75 a90 a102 a53 hP3 p1 p2 p3 p4 p5 p6 hR' f1 e1 xx qq c1 c2 c3 c4 c5 c6 c7 w1 w2 w3 w4 s1 s2 s3 s4 s5 s6 lbt msk t1 t2 t3 e90 e104 e13 m19 m419 s53 m453 oX oO oK; lia))]
  have o224 : N3 224 (Mq 6 102) = N 224 (Mq 6 102) := by rw [c6 224 _ (by decide) (by omega) (by omega), r6 224 (by decide)]
  have o221 : N4 221 (Mq 6 102) = x3 + i := by rw [z1 221 (by decide), c6 221 _ (by decide) (by omega) (by (clear hp hi hai h053 ha hxf hP hS hM hv hE4 hx8 h01 d1 d2 d3 d4 d5 d6 d7 d8 d9 d10 d11 d12 d13 d14 d15 d16 h1 h2 h3 h4 h5 h6 h7' g1 g2 g3 g4 k1 k2 k3 k4 k5 k6 k7 x1 x2' x3' x4' q1 q2 q3 y1 y2 y3 y4 z1 z2 z3 z4 z5 z6 z7 z8 z9 z10 r6 i6 n90 n75 n104 a75 a90 a102 a53 hP3 p1 p2 p3 p4 p5 p6 hR' f1 e1 xx qq c1 c2 c3 c4 c5 c6 c7 w1 w2 w3 w4 s1 s2 s3 s4 s5 s6 lbt msk t1 t2 t3 e90 e104 e13 m19 m419 s53 m453 oX oO oK oD o224; omega)), q1 221 (by decide), g2, d4]
  have o222 : N4 222 (Mq 6 102) = N 6 90 + i - 1 := by rw [z1 222 (by decide), c6 222 _ (by decide) (by omega) (by (clear hp hi hai h053 ha hxf hP hS hM hv hE4 hx8 h01 d1 d2 d3 d4 d5 d6 d7 d8 d9 d10 d11 d12 d13 d14 d15 d16 h1 h2 h3 h4 h5 h6 h7' g1 g2 g3 g4 k1 k2 k3 k4 k5 k6 k7 x1 x2' x3' x4' q1 q2 q3 y1 y2 y3 y4 z1 z2 z3 z4 z5 z6 z7 z8 z9 z10 r6 i6 n90 n75 n104 a75 a90 a102 a53 hP3 p1 p2 p3 p4 p5 p6 hR' f1 e1 xx qq c1 c2 c3 c4 c5 c6 c7 w1 w2 w3 w4 s1 s2 s3 s4 s5 s6 lbt msk t1 t2 t3 e90 e104 e13 m19 m419 s53 m453 oX oO oK oD o224 o221; omega)), q1 222 (by decide), g3, if_neg (by (clear hp hai h053 ha hxf hP hS hM hv hE4 hx8 h01 d1 d2 d3 d4 d5 d6 d7 d8 d9 d10 d11 d12 d13 d14 d15 d16 h1 h2 h4 h5 h6 h7' g2 g3 g4 k1 k2 k3 k4 k5 k6 k7 x1 x2' x3' x4' q1 q2 q3 y1 y2 y3 y4 z1 z2 z3 z4 z5 z6 z7 z8 z9 z10 r6 i6 n75 n104 n102 a75 a90 a102 a53 hP3 p1 p2 p3 p4 p5 p6 hR' f1 e1 xx qq c1 c2 c3 c4 c5 c6 c7 w1 w2 w3 w4 s1 s2 s3 s4 s5 s6 lbt msk t1 t2 t3 e90 e104 e13 m19 m419 s53 m453 oX oO oK oD o224 o221; lia))]
  have oRg : ∀ r j, r ∈ rgR → 0 ≤ j → j < N 6 90 + i → N4 r j = N' r j := fun r j hr x y => by
    rw [z1 r (by unfold rgR at hr; simp only [List.mem_cons, List.not_mem_nil, or_false] at hr ⊢; (clear hp hi hai h053 ha hxf hP hS hM hv hE4 hx8 h01 d1 d2 d3 d4 d5 d6 d7 d8 d9 d10 d11 d12 d13 d14 d15 d16 h1 h2 h3 h4 h5 h6 h7' g1 g2 g3 g4 k1 k2 k3 k4 k5 k6 k7 x1 x2' x3' x4' q1 q2 q3 y1 y2 y3 y4 z1 z2 z3 z4 z5 z6 z7 z8 z9 z10 r6 i6 n90 n75 n104 n102 a75 a90 a102 a53 hP3 p1 p2 p3 p4 p5 p6 hR' f1 e1 xx qq c1 c2 c3 c4 c5 c6 c7 w1 w2 w3 w4 s1 s2 s3 s4 s5 s6 lbt msk t1 t2 t3 e90 e104 e13 m19 m419 s53 m453 oX oO oK oD o224 o221 o222 x y; omega)), c5 r j hr x (by (clear hp hi hai h053 ha hxf hP hS hM hv hE4 hx8 h01 d1 d2 d3 d4 d5 d6 d7 d8 d9 d10 d11 d12 d13 d14 d15 d16 h1 h2 h3 h4 h5 h6 h7' g2 g3 g4 k1 k2 k3 k4 k5 k6 k7 x1 x2' x3' x4' q1 q2 q3 y1 y2 y3 y4 z1 z2 z3 z4 z5 z6 z7 z8 z9 z10 r6 i6 n75 n104 n102 a75 a90 a102 a53 hP3 p1 p2 p3 p4 p5 p6 hR' f1 e1 xx qq c1 c2 c3 c4 c5 c6 c7 w1 w2 w3 w4 s1 s2 s3 s4 s5 s6 lbt msk t1 t2 t3 e90 e104 e13 m19 m419 s53 m453 oX oO oK oD o224 o221 hr x; omega)), q1 r (fun e => absurd hr (by rw [e]; decide))]
  have gN : N 224 (Mq 6 102) < N 6 75 := by
    cases mm with
    | zero => have : N 224 (Mq 6 102) = -1 := d14; (clear hp hi hai h053 ha hxf hP hS hM hv hE4 hx8 h01 d1 d2 d3 d4 d5 d6 d7 d8 d9 d10 d11 d13 h1 h2 h3 h4 h5 h6 h7' g1 g2 g3 g4 k1 k2 k3 k4 k5 k6 k7 x1 x2' x3' x4' q1 q2 q3 y1 y2 y3 y4 z1 z2 z3 z4 z5 z6 z7 z8 z9 z10 r6 i6 n90 n104 n102 a90 a102 a53 hP3 p1 p2 p3 p4 p5 p6 hR' f1 e1 xx qq c1 c2 c3 c4 c5 c6 c7 w1 w2 w3 w4 s1 s2 s3 s4 s5 s6 lbt msk t1 t2 t3 e90 e104 e13 m19 m419 s53 m453 oX oO oK oD o224 o221 o222 oRg d14 d15 d16; omega)
    | succ m => exact d14.1.2
  have hxf4 : XF M3 M4 := ⟨fun r hr => y1 r (fun e => hr (by rw [e]; decide)) (fun e => hr (by rw [e]; decide)), fun j _ _ _ _ _ => by rw [y1 1 (by decide) (by decide)], y3⟩
  have hqd4 : QD N3 N4 := ⟨fun r hr => z1 r (fun e => hr (by revert e; unfold qdL; simp only [List.mem_cons, List.not_mem_nil, or_false]; (clear hp hi hai h053 ha hxf hP hS hM hv hE4 hx8 h01 d1 d2 d3 d4 d5 d6 d7 d8 d9 d10 d11 d12 d13 d14 d15 d16 h1 h2 h3 h4 h5 h6 h7' g1 g2 g3 g4 k1 k2 k3 k4 k5 k6 k7 x1 x2' x3' x4' q1 q2 q3 y1 y2 y3 y4 z1 z2 z3 z4 z5 z6 z7 z8 z9 z10 r6 i6 n90 n75 n104 n102 a75 a90 a102 a53 hP3 p1 p2 p3 p4 p5 p6 hR' f1 e1 xx qq c1 c2 c3 c4 c5 c6 c7 w1 w2 w3 w4 s1 s2 s3 s4 s5 s6 lbt msk t1 t2 t3 e90 e104 e13 m19 m419 s53 m453 oX oO oK oD o224 o221 o222 oRg gN hxf4 hr; lia))), fun j hj => z2 j (nm_i hj (by decide)) (nm_i hj (by decide))⟩
  have x7 : M4 1 7 = M3 1 7 := by rw [y1 1 (by decide) (by decide)]
  obtain ⟨pp1, pp2, pp3, pp4, pp5, pp6⟩ := PRD_PB hP3
  have P4 : PRD b F F2 Mx Mq M4 N4 a0 a3 o (o + 1) me := by
    refine PRD_s hP3 hE4 hxf4 hqd4 ⟨fun j x y => ?_, fun r j hr x y => z5 r j hr (by (clear hp hi hai h053 ha hxf hP hS hM hv hE4 hx8 h01 d1 d2 d3 d4 d5 d6 d7 d8 d9 d10 d11 d12 d13 d14 d15 d16 h1 h2 h3 h4 h5 h6 h7' g1 g2 g3 g4 k1 k2 k3 k4 k5 k6 k7 x1 x2' x3' x4' q1 q2 q3 y1 y2 y3 y4 z1 z2 z3 z4 z5 z6 z7 z8 z10 r6 i6 n90 n75 n104 n102 a75 a90 a102 a53 hP3 p1 p2 p3 p4 p5 p6 hR' f1 e1 xx qq c1 c2 c3 c4 c5 c6 c7 w1 w2 w3 w4 s1 s2 s3 s4 s5 s6 lbt msk t1 t2 t3 e90 e104 e13 m19 m419 s53 m453 oX oO oK oD o224 o221 o222 oRg gN hxf4 hqd4 x7 pp1 pp3 pp4 pp5 pp6 hr x; lia)), fun j x y => by rw [z1 209 (by decide)], fun j x y => by rw [z1 227 (by decide), z1 228 (by decide)]; exact ⟨rfl, rfl⟩, fun r j hr x y => by rw [z1 r (by unfold rgR at hr; simp only [List.mem_cons, List.not_mem_nil, or_false] at hr ⊢; (clear hp hi hai h053 ha hxf hP hS hM hv hE4 hx8 h01 d1 d2 d3 d4 d5 d6 d7 d8 d9 d10 d11 d12 d13 d14 d15 d16 h1 h2 h3 h4 h5 h6 h7' g1 g2 g3 g4 k1 k2 k3 k4 k5 k6 k7 x1 x2' x3' x4' q1 q2 q3 y1 y2 y3 y4 z1 z2 z3 z4 z5 z6 z7 z8 z9 z10 r6 i6 n90 n75 n104 n102 a75 a90 a102 a53 hP3 p1 p2 p3 p4 p5 p6 hR' f1 e1 xx qq c1 c2 c3 c4 c5 c6 c7 w1 w2 w3 w4 s1 s2 s3 s4 s5 s6 lbt msk t1 t2 t3 e90 e104 e13 m19 m419 s53 m453 oX oO oK oD o224 o221 o222 oRg gN hxf4 hqd4 x7 pp1 pp2 pp3 pp4 pp5 pp6 x y; omega))], fun r j hr x y => z6 r j hr (by (clear hp hi hai h053 ha hxf hP hS hM hv hE4 hx8 h01 d1 d2 d3 d4 d5 d6 d7 d8 d9 d10 d11 d12 d13 d14 d15 d16 h1 h2 h3 h4 h5 h6 h7' g1 g2 g3 g4 k1 k2 k3 k4 k5 k6 k7 x1 x2' x3' x4' q1 q2 q3 y1 y2 y3 y4 z1 z2 z3 z4 z5 z6 z7 z8 z9 z10 r6 i6 n90 n75 n104 a75 a90 a102 a53 hP3 p1 p2 p3 p4 p5 p6 hR' f1 e1 xx qq c1 c2 c3 c4 c5 c6 w1 w2 w3 w4 s1 s2 s3 s4 s5 s6 lbt msk t1 t2 t3 e90 e104 e13 m19 m419 s53 m453 oX oO oK oD o224 o221 o222 oRg gN hxf4 hqd4 x7 pp1 pp2 pp3 pp4 pp5 pp6 hr x; lia))⟩ ⟨by omega, by (clear hp h053 hxf hP hS hM hv hE4 hx8 h01 d1 d2 d3 d4 d5 d6 d7 d8 d9 d10 d11 d12 d13 d14 d15 d16 h1 h2 h4 h5 h6 h7' g2 g3 g4 k1 k2 k3 k4 k5 k6 k7 x1 x2' x3' x4' q1 q2 q3 y1 y2 y3 y4 z1 z2 z4 z5 z6 z7 z8 z10 r6 i6 n104 n102 a75 a90 a102 a53 hP3 p1 p3 p4 p5 p6 hR' f1 e1 xx qq c1 c2 c3 c4 c5 c6 c7 w1 w2 w3 w4 s1 s3 s4 s5 s6 lbt msk t1 t2 t3 e90 e104 e13 m19 m419 s53 m453 oX oO oK oD o224 o221 oRg gN hxf4 hqd4 x7 pp1 pp3 pp4 pp5 pp6; lia), by (clear hp hi hai h053 ha hxf hP hS hM hv hE4 hx8 h01 d1 d2 d3 d4 d5 d6 d7 d8 d9 d10 d11 d12 d13 d14 d15 d16 h1 h2 h3 h4 h5 h6 h7' g1 g2 g3 g4 k1 k2 k3 k4 k5 k6 k7 x1 x2' x3' x4' q1 q2 q3 y1 y2 y3 y4 z1 z2 z3 z4 z5 z6 z7 z8 z9 z10 r6 i6 n90 n75 n104 n102 a75 a90 a102 a53 hP3 p1 p2 p3 p4 p5 p6 hR' f1 e1 xx qq c1 c2 c3 c4 c5 c6 c7 w1 w2 w3 w4 s1 s2 s3 s4 s5 s6 lbt msk t1 t2 t3 e90 e13 m19 m419 s53 m453 oX oO oK oD o224 o221 o222 oRg gN hxf4 hqd4 x7 pp1 pp2 pp4 pp5 pp6; lia), ⟨by (clear hp hi hai h053 ha hxf hP hS hM hv hE4 hx8 h01 d1 d2 d3 d4 d5 d6 d7 d8 d9 d10 d11 d12 d13 d14 d15 d16 h1 h2 h3 h4 h5 h6 h7' g1 g2 g3 g4 k1 k2 k3 k4 k5 k6 k7 x1 x2' x3' x4' q1 q2 q3 y1 y2 y3 y4 z1 z2 z3 z4 z5 z6 z7 z8 z9 z10 r6 i6 n90 n75 n104 n102 a75 a90 a102 a53 hP3 p1 p2 p3 p4 p5 p6 hR' f1 e1 xx qq c1 c2 c3 c4 c5 c6 c7 w1 w2 w3 w4 s1 s2 s3 s4 s5 s6 lbt msk t1 t2 t3 e90 e104 e13 m19 m419 s53 oX oO oK oD o224 o221 o222 oRg gN hxf4 hqd4 x7 pp1 pp2 pp3 pp5 pp6; omega), by (clear hp hxf hP hS hM hv hE4 hx8 h01 d1 d2 d3 d4 d5 d6 d7 d8 d9 d10 d11 d12 d13 d14 d15 d16 h1 h2 h4 h5 h6 h7' g2 g3 g4 k1 k2 k3 k5 k6 k7 x1 x3' x4' q1 q2 q3 y1 y2 y3 y4 z1 z2 z3 z4 z5 z6 z7 z8 z9 z10 r6 i6 n75 n104 n102 a75 a90 a102 a53 hP3 p1 p2 p3 p5 p6 hR' f1 e1 xx qq c1 c2 c3 c4 c5 c6 c7 w1 w2 w3 w4 s1 s2 s3 s5 s6 lbt msk t1 t2 t3 e90 e104 e13 m19 m419 oX oO oK oD o224 o221 oRg gN hxf4 hqd4 x7 pp1 pp2 pp3 pp4 pp5 pp6; omega), fun hb => by rw [y2 hb]; exact pp4.2.2 hb⟩, by (clear hp hi hai h053 ha hxf hP hS hM hv hE4 hx8 h01 d1 d2 d3 d4 d5 d6 d7 d8 d9 d10 d11 d12 d13 d14 d15 d16 h1 h2 h3 h4 h5 h6 h7' g1 g2 g3 g4 k1 k2 k3 k4 k5 k6 k7 x1 x2' x3' x4' q1 q2 q3 y1 y2 y3 y4 z1 z2 z3 z4 z5 z6 z7 z8 z9 z10 r6 i6 n90 n75 n104 n102 a75 a90 a102 a53 hP3 p1 p2 p3 p4 p5 p6 hR' f1 e1 xx qq c1 c2 c3 c4 c5 c6 c7 w1 w2 w3 w4 s1 s2 s3 s4 s5 s6 lbt msk t1 t2 t3 e104 e13 m19 m419 s53 m453 oX oO oK oD o224 o221 o222 oRg gN hxf4 hqd4 x7 pp1 pp2 pp3 pp4 pp6; lia), by (clear hp hi hai h053 ha hxf hP hS hM hv hE4 hx8 h01 d1 d2 d3 d4 d5 d6 d7 d8 d9 d10 d11 d12 d13 d14 d15 d16 h1 h2 h3 h4 h5 h6 h7' g1 g2 g3 g4 k1 k2 k3 k4 k5 k6 k7 x1 x2' x3' x4' q1 q2 q3 y1 y2 y3 y4 z1 z2 z3 z4 z5 z6 z7 z8 z9 z10 r6 i6 n90 n75 n104 n102 a75 a90 a102 a53 hP3 p1 p2 p3 p4 p5 p6 hR' f1 e1 xx qq c1 c2 c3 c4 c5 c6 c7 w1 w2 w3 w4 s1 s2 s3 s4 s5 s6 lbt msk t1 t2 t3 e90 e104 e13 m19 m419 s53 m453 oX oO oK oD o224 o221 o222 oRg gN hxf4 hqd4 pp1 pp2 pp3 pp4 pp5; lia)⟩ (by (clear hp hi hai h053 ha hxf hP hS hM hv hE4 hx8 h01 d1 d2 d3 d4 d5 d6 d7 d8 d9 d10 d11 d12 d13 d14 d15 d16 h1 h2 h3 h4 h5 h6 h7' g1 g2 g3 g4 k1 k2 k3 k4 k5 k6 k7 x1 x2' x3' x4' q1 q2 q3 y1 y2 y3 y4 z1 z2 z3 z4 z5 z6 z7 z8 z9 z10 r6 i6 n90 n75 n104 n102 a75 a90 a102 a53 hP3 p1 p2 p3 p4 p5 p6 hR' f1 e1 xx qq c1 c2 c3 c4 c5 c6 c7 w1 w2 w3 w4 s1 s2 s3 s4 s5 s6 lbt msk t1 t2 t3 e90 e104 e13 m19 m419 s53 m453 oX oO oK oD o224 o221 o222 oRg gN hxf4 hqd4 x7 pp1 pp2 pp3 pp4 pp5 pp6; lia))
    rcases h01 with hb | hb
    · rw [y2 hb]
    · exact (y4 hb).2.2.2.2 j (by (clear hp hai ha hxf hP hS hM hv hE4 hx8 d1 d2 d3 d4 d5 d6 d7 d8 d9 d10 d11 d12 d13 d14 d15 d16 h1 h2 h4 h5 h6 h7' g2 g3 g4 k1 k2 k3 k5 k6 k7 x1 x3' x4' q1 q2 q3 y1 y2 y3 y4 z1 z2 z3 z4 z5 z6 z7 z8 z9 z10 r6 i6 n75 n104 n102 a75 a90 a102 a53 hP3 p1 p2 p3 p5 p6 hR' f1 e1 xx qq c1 c2 c3 c4 c5 c6 c7 w1 w2 w3 w4 s1 s2 s3 s4 s5 s6 lbt msk t1 t2 t3 e90 e104 e13 m19 m419 s53 m453 oX oO oK oD o224 o221 oRg gN hxf4 hqd4 x7 pp1 pp2 pp3 pp4 pp5 pp6 x hb; lia)) (by (clear hp hi hai h053 ha hxf hP hS hM hv hE4 hx8 d1 d2 d3 d4 d5 d6 d7 d8 d9 d10 d11 d12 d13 d14 d15 d16 h1 h2 h3 h4 h5 h6 h7' g1 g2 g3 g4 k1 k2 k3 k4 k5 k6 k7 x1 x2' x3' x4' q1 q2 q3 y1 y2 y3 y4 z1 z2 z3 z4 z5 z6 z7 z8 z9 z10 r6 i6 n90 n75 n104 n102 a75 a90 a102 a53 hP3 p1 p2 p3 p4 p5 p6 hR' f1 e1 xx qq c1 c2 c3 c4 c5 c6 c7 w1 w2 w3 w4 s1 s2 s3 s4 s5 s6 lbt msk t1 t2 t3 e90 e104 e13 m19 m419 s53 m453 oX oO oK oD o224 o221 o222 oRg gN hxf4 hqd4 x7 pp1 pp2 pp3 pp5 pp6 x hb; omega))
  refine ⟨P4, ?_, ⟨?_, o221, by (clear hp hai h053 ha hxf hP hS hM hv hE4 h01 d1 d2 d3 d6 d7 d8 d9 d10 d11 d12 d13 d14 d15 d16 h1 h2 h4 h5 h6 h7' g3 g4 k1 k2 k3 k4 k5 k6 k7 x1 x2' x3' x4' q1 q2 q3 y1 y2 y3 y4 z1 z2 z3 z4 z5 z6 z7 z8 z9 z10 r6 i6 n75 n104 n102 a75 a90 a102 a53 hP3 p1 p2 p3 p4 p5 p6 hR' f1 e1 xx qq c1 c2 c3 c4 c5 c6 c7 w1 w2 w3 w4 s1 s2 s3 s4 s5 s6 lbt msk t1 t2 t3 e90 e104 e13 m19 m419 s53 m453 oX oO oK oD o224 oRg gN hxf4 hqd4 x7 pp1 pp2 pp3 pp4 pp5 pp6 P4; lia), ⟨by (clear hp hai h053 ha hxf hP hS hM hv hE4 hx8 h01 d1 d2 d3 d4 d5 d6 d7 d8 d9 d10 d11 d12 d13 d14 d15 d16 h1 h2 h4 h5 h6 h7' g2 g3 g4 k1 k2 k3 k4 k5 k6 k7 x1 x2' x3' x4' q1 q2 q3 y1 y2 y3 y4 z1 z2 z3 z4 z5 z6 z7 z8 z9 z10 r6 i6 n75 n104 n102 a75 a102 a53 hP3 p1 p2 p3 p4 p6 hR' f1 e1 xx qq c1 c2 c3 c4 c5 c6 c7 w1 w2 w3 w4 s1 s2 s3 s4 s5 s6 lbt msk t1 t2 t3 e90 e104 e13 m19 m419 s53 m453 oX oO oK oD o224 o221 oRg gN hxf4 hqd4 x7 pp1 pp2 pp3 pp4 pp5 pp6 P4; omega), by (clear hp hi hai h053 ha hxf hP hS hM hv hE4 hx8 h01 d1 d2 d3 d4 d5 d6 d7 d8 d9 d10 d11 d12 d13 d14 d15 d16 h1 h2 h3 h4 h5 h6 h7' g2 g3 g4 k1 k2 k3 k4 k5 k6 k7 x1 x2' x3' x4' q1 q2 q3 y1 y2 y3 y4 z1 z2 z3 z4 z5 z6 z7 z8 z9 z10 r6 i6 n75 n104 n102 a75 a90 a102 a53 hP3 p1 p2 p3 p4 p5 p6 hR' f1 e1 xx qq c1 c2 c3 c4 c5 c6 c7 w1 w2 w3 w4 s1 s2 s3 s4 s6 lbt msk t1 t2 t3 e104 e13 m19 m419 s53 m453 oX oO oK oD o224 o221 oRg gN hxf4 hqd4 x7 pp1 pp2 pp3 pp4 pp5 pp6 P4; omega)⟩, fun _ => by (clear hp hai h053 ha hxf hP hS hM hv hE4 hx8 h01 d1 d2 d3 d4 d5 d6 d7 d8 d9 d10 d11 d12 d13 d14 d15 d16 h1 h2 h4 h5 h6 h7' g2 g3 g4 k1 k2 k3 k4 k5 k6 k7 x1 x2' x3' x4' q1 q2 q3 y1 y2 y3 y4 z1 z2 z3 z4 z5 z6 z7 z8 z9 z10 r6 i6 n75 n104 n102 a75 a90 a102 a53 hP3 p1 p2 p3 p4 p6 hR' f1 e1 xx qq c1 c2 c3 c4 c5 c6 c7 w1 w2 w3 w4 s1 s2 s3 s4 s5 s6 lbt msk t1 t2 t3 e90 e104 e13 m19 m419 s53 m453 oX oO oK oD o224 o221 oRg gN hxf4 hqd4 x7 pp1 pp2 pp3 pp4 pp5 pp6 P4; omega), fun hb => ?_, ?_, z10, ?_⟩, by (clear hp hi hai h053 ha hxf hP hS hM hv hE4 hx8 h01 d1 d2 d3 d4 d5 d6 d7 d8 d9 d10 d11 d12 d13 d14 d15 d16 h1 h2 h3 h4 h5 h6 h7' g1 g2 g3 g4 k1 k2 k3 k4 k5 k6 k7 x1 x2' x3' x4' q1 q2 q3 y1 y2 y3 y4 z1 z2 z4 z5 z6 z7 z8 z10 r6 i6 n90 n75 n104 n102 a75 a90 a102 a53 hP3 p1 p2 p3 p4 p5 p6 hR' f1 e1 xx qq c1 c2 c3 c4 c5 c6 c7 w1 w2 w3 w4 s1 s2 s3 s4 s5 s6 lbt msk t1 t2 t3 e90 e104 e13 m19 m419 s53 m453 oX oO oK oD o224 o221 o222 oRg gN hxf4 hqd4 x7 pp1 pp3 pp4 pp5 pp6 P4; omega), ?_, ?_, fun hb => ?_, fun hb h0 => ?_⟩
  · rw [z2 102 (by decide) (by decide), c7]; exact n102
  · rw [oD 220 (by decide) (by decide) (by decide) (by decide) (by decide)]; exact d3
  · rw [oD 223 (by decide) (by decide) (by decide) (by decide) (by decide)]; exact d8 hb
  · rw [oD 225 (by decide) (by decide) (by decide) (by decide) (by decide)]; exact d9
  · split
    · exact .inl rfl
    · exact .inr rfl
  · rw [oO 207 _ (by decide) a75.1 d12 (.inr (by decide))]; exact d13
  · rw [z9, z3]
    refine ⟨by (clear hp hi hai h053 ha hxf hP hS hM hv hE4 hx8 h01 d1 d2 d3 d4 d5 d6 d7 d8 d9 d10 d11 d13 d14 d15 d16 h1 h2 h3 h4 h5 h6 h7' g1 g2 g3 g4 k1 k2 k3 k4 k5 k6 k7 x1 x2' x3' x4' q1 q2 q3 y1 y2 y3 y4 z1 z2 z3 z4 z5 z6 z7 z8 z10 r6 i6 n90 n104 n102 a75 a90 a102 a53 hP3 p1 p2 p3 p4 p5 p6 hR' f1 e1 xx qq c1 c2 c3 c4 c5 c6 c7 w1 w2 w3 w4 s1 s3 s4 s5 s6 lbt msk t1 t2 t3 e90 e104 e13 m19 m419 s53 m453 oX oO oK oD o224 o221 o222 oRg gN hxf4 hqd4 x7 pp1 pp3 pp4 pp5 pp6 P4; omega), by rw [z8, o224]; (clear hp hi hai h053 ha hxf hP hS hM hv hE4 hx8 h01 d1 d2 d3 d4 d5 d6 d7 d8 d9 d10 d11 d12 d13 d14 d15 d16 h1 h2 h3 h4 h5 h6 h7' g1 g2 g3 g4 k1 k2 k3 k4 k5 k6 k7 x1 x2' x3' x4' q1 q2 q3 y1 y2 y3 y4 z1 z2 z3 z4 z5 z6 z7 z8 z10 r6 i6 n90 n104 n102 a75 a90 a102 a53 hP3 p1 p2 p3 p4 p5 p6 hR' f1 e1 xx qq c1 c2 c3 c4 c5 c6 c7 w1 w2 w3 w4 s1 s3 s4 s5 s6 lbt msk t1 t2 t3 e90 e104 e13 m19 m419 s53 m453 oX oO oK oD o224 o221 o222 oRg hxf4 hqd4 x7 pp1 pp2 pp3 pp4 pp5 pp6 P4; omega), ?_⟩
    rw [z8, o224]
    exact QHO_c (k1 := 0) (by (clear hp hi hai h053 ha hxf hP hS hM hv hE4 hx8 h01 d1 d2 d3 d4 d5 d6 d7 d8 d9 d10 d11 d12 d13 d14 d15 d16 h1 h2 h3 h4 h5 h6 h7' g1 g2 g3 g4 k1 k2 k3 k4 k5 k6 k7 x1 x2' x3' x4' q1 q2 q3 y1 y2 y3 y4 z1 z2 z3 z4 z5 z6 z7 z8 z10 r6 i6 n90 n104 n102 a75 a90 a102 a53 hP3 p1 p2 p3 p4 p5 p6 hR' f1 e1 xx qq c1 c2 c3 c4 c5 c6 c7 w1 w2 w3 w4 s1 s3 s4 s5 s6 lbt msk t1 t2 t3 e90 e104 e13 m19 m419 s53 m453 oX oO oK oD o224 o221 o222 oRg gN hxf4 hqd4 x7 pp1 pp2 pp3 pp4 pp5 pp6 P4; omega)) (fun j x y => oO 206 j (by decide) (by (clear hp hi hai h053 ha hxf hP hS hM hv hE4 hx8 h01 d1 d2 d3 d4 d5 d6 d7 d8 d9 d10 d11 d12 d13 d14 d15 d16 h1 h2 h3 h4 h5 h6 h7' g1 g2 g3 g4 k1 k2 k3 k4 k5 k6 k7 x1 x2' x3' x4' q1 q2 q3 y1 y2 y3 y4 z1 z2 z3 z4 z5 z6 z7 z8 z9 z10 r6 i6 n90 n75 n104 n102 a90 a102 a53 hP3 p1 p2 p3 p4 p5 p6 hR' f1 e1 xx qq c1 c2 c3 c4 c5 c6 c7 w1 w2 w3 w4 s1 s2 s3 s4 s5 s6 lbt msk t1 t2 t3 e90 e104 e13 m19 m419 s53 m453 oX oO oK oD o224 o221 o222 oRg gN hxf4 hqd4 x7 pp1 pp2 pp3 pp4 pp5 pp6 P4 y; lia)) y (.inl (by (clear hp hi hai h053 ha hxf hP hS hM hv hE4 hx8 h01 d1 d2 d3 d4 d5 d6 d7 d8 d9 d10 d11 d12 d13 d14 d15 d16 h1 h2 h3 h4 h5 h6 h7' g1 g2 g3 g4 k1 k2 k3 k4 k5 k6 k7 x1 x2' x3' x4' q1 q2 q3 y1 y2 y3 y4 z1 z2 z3 z4 z5 z6 z7 z8 z9 z10 r6 i6 n90 n75 n104 n102 a75 a90 a102 a53 hP3 p1 p2 p3 p4 p5 p6 hR' f1 e1 xx qq c1 c2 c3 c4 c5 c6 c7 w1 w2 w3 w4 s1 s2 s3 s4 s5 s6 lbt msk t1 t2 t3 e90 e104 e13 m19 m419 s53 m453 oX oO oK oD o224 o221 o222 oRg gN hxf4 hqd4 x7 pp1 pp2 pp3 pp4 pp5 pp6 P4 y; omega)))) mm d14
  · have y4' := y4 hb
    have dX := d15 hb
    rw [if_neg (by (clear hp hi hai h053 ha hxf hP hS hM hv hE4 hx8 h01 d1 d2 d3 d4 d5 d6 d7 d8 d9 d10 d11 d12 d13 d14 d15 d16 h1 h2 h3 h4 h5 h6 h7' g1 g2 g3 g4 k1 k2 k3 k4 k5 k6 k7 x1 x2' x3' x4' q1 q2 q3 y1 y2 y3 y4 z1 z2 z3 z4 z5 z6 z7 z8 z9 z10 r6 i6 n90 n75 n104 n102 a75 a90 a102 a53 hP3 p1 p2 p3 p4 p5 p6 hR' f1 e1 xx qq c1 c2 c3 c4 c5 c6 c7 w1 w2 w3 w4 s1 s2 s3 s4 s5 s6 lbt msk t1 t2 t3 e90 e104 e13 m19 m419 s53 m453 oX oO oK oD o224 o221 o222 oRg gN hxf4 hqd4 x7 pp1 pp2 pp3 pp4 pp5 pp6 P4 y4' dX; lia)), y4'.1]
    have hx4 : x4 < M 5 3 := by
      cases mm with
      | zero => have : x4 = -1 := dX; (clear hp hi hai ha hxf hP hS hM hv hE4 hx8 h01 d1 d2 d3 d4 d5 d6 d7 d8 d9 d10 d11 d12 d13 h1 h2 h3 h4 h5 h6 h7' g1 g2 g3 g4 k1 k2 k3 k5 k6 k7 x1 x3' x4' q1 q2 q3 y1 y2 y3 y4 z1 z2 z3 z4 z5 z6 z7 z8 z9 z10 r6 i6 n90 n75 n104 n102 a75 a90 a102 hP3 p1 p2 p3 p5 p6 hR' f1 e1 xx qq c1 c2 c3 c4 c5 c6 c7 w1 w2 w3 w4 s1 s2 s3 s4 s5 s6 lbt msk t1 t2 t3 e90 e104 e13 m19 m419 s53 m453 oX oO oK oD o224 o221 o222 oRg gN hxf4 hqd4 x7 pp1 pp2 pp3 pp4 pp5 pp6 P4 hb y4' d14 d15 d16 dX; omega)
      | succ m => exact dX.1.2
    refine ⟨by (clear hp hi hai h053 ha hxf hP hS hM hv hE4 hx8 h01 d1 d2 d3 d4 d5 d6 d7 d8 d9 d10 d11 d12 d13 d14 d15 d16 h1 h2 h3 h4 h5 h6 h7' g1 g2 g3 g4 k1 k2 k3 k4 k5 k6 k7 x1 x2' x3' x4' q1 q2 q3 y1 y2 y3 y4 z1 z2 z3 z4 z5 z6 z7 z8 z9 z10 r6 i6 n90 n75 n104 n102 a75 a90 a102 a53 hP3 p1 p2 p3 p4 p5 p6 hR' f1 e1 xx qq c1 c2 c3 c4 c5 c6 c7 w1 w2 w3 w4 s1 s2 s3 s4 s5 s6 lbt msk t1 t2 t3 e90 e104 e13 m19 m419 s53 m453 oX oO oK oD o224 o221 o222 oRg gN hxf4 hqd4 x7 pp1 pp2 pp3 pp5 pp6 P4 hb dX hx4; omega), by rw [y4'.2.2.1]; (clear hp hi hai ha hxf hP hS hM hv hE4 hx8 h01 d1 d2 d3 d4 d5 d6 d7 d8 d9 d10 d11 d12 d13 d14 d15 d16 h1 h2 h3 h4 h5 h6 h7' g1 g2 g3 g4 k1 k2 k3 k5 k6 k7 x1 x3' x4' q1 q2 q3 y1 y2 y3 y4 z1 z2 z3 z4 z5 z6 z7 z8 z9 z10 r6 i6 n90 n75 n104 n102 a75 a90 a102 a53 hP3 p1 p2 p3 p4 p5 p6 hR' f1 e1 xx qq c1 c2 c3 c4 c5 c6 c7 w1 w2 w3 w4 s1 s2 s3 s5 s6 lbt msk t1 t2 t3 e90 e104 e13 m19 m419 m453 oX oO oK oD o224 o221 o222 oRg gN hxf4 hqd4 x7 pp1 pp2 pp3 pp4 pp5 pp6 P4 hb dX; omega), ?_⟩
    rw [y4'.2.2.1]
    exact XHO_c (Int.le_refl _) (by (clear hp hi hai ha hxf hP hS hM hv hE4 hx8 h01 d1 d2 d3 d4 d5 d6 d7 d8 d9 d10 d11 d12 d13 d14 d15 d16 h1 h2 h3 h4 h5 h6 h7' g1 g2 g3 g4 k1 k2 k3 k5 k6 k7 x1 x3' x4' q1 q2 q3 y1 y2 y3 y4 z1 z2 z3 z4 z5 z6 z7 z8 z9 z10 r6 i6 n90 n75 n104 n102 a75 a90 a102 a53 hP3 p1 p2 p3 p4 p5 p6 hR' f1 e1 xx qq c1 c2 c3 c4 c5 c6 c7 w1 w2 w3 w4 s1 s2 s3 s5 s6 lbt msk t1 t2 t3 e90 e104 e13 m19 m419 m453 oX oO oK oD o224 o221 o222 oRg gN hxf4 hqd4 x7 pp1 pp2 pp3 pp4 pp5 pp6 P4 hb dX hx4; omega)) (fun j x y => oX j (by (clear hp hi hai h053 ha hxf hP hS hM hv hE4 hx8 h01 d1 d2 d3 d4 d5 d6 d7 d8 d9 d10 d11 d12 d13 d14 d15 d16 h1 h2 h3 h4 h5 h6 h7' g1 g2 g3 g4 k1 k2 k3 k4 k5 k6 k7 x1 x2' x3' x4' q1 q2 q3 y1 y2 y3 y4 z1 z2 z3 z4 z5 z6 z7 z8 z9 z10 r6 i6 n90 n75 n104 n102 a75 a90 a102 hP3 p1 p2 p3 p4 p5 p6 hR' f1 e1 xx qq c1 c2 c3 c4 c5 c6 c7 w1 w2 w3 w4 s1 s2 s3 s4 s5 s6 lbt msk t1 t2 t3 e90 e104 e13 m19 m419 s53 m453 oX oO oK oD o224 o221 o222 oRg gN hxf4 hqd4 x7 pp1 pp2 pp3 pp4 pp5 pp6 P4 hb y4' dX hx4 y; lia)) y) mm dX
  · have y4' := y4 hb
    have h3 : N3 6 13 = 0 := by rw [← e13]; exact h0
    obtain ⟨hp0, hsg, hsb⟩ := hM hb h3
    have hn0 : N 6 13 = 0 := k7 hb (by rw [q2 13 (by decide) (by decide)] at hp0; exact hp0)
    obtain ⟨hq0, hD⟩ := d16 hb hn0
    refine ⟨hq0, ?_⟩
    rw [if_neg (by (clear hp hi hai h053 ha hxf hP hS hM hv hE4 hx8 h01 d1 d2 d3 d4 d5 d6 d7 d8 d9 d10 d11 d12 d13 d14 d15 d16 h1 h2 h4 h5 h6 h7' g1 g2 g3 g4 k1 k2 k3 k4 k5 k6 k7 x1 x2' x3' x4' q1 q2 q3 y1 y2 y3 y4 z1 z2 z3 z4 z5 z6 z7 z8 z9 z10 r6 i6 n90 n75 n104 n102 a75 a90 a102 a53 hP3 p1 p2 p3 p4 p5 p6 hR' f1 e1 xx qq c1 c2 c3 c4 c5 c6 c7 w1 w2 w3 w4 s1 s2 s3 s4 s5 s6 lbt msk t1 t2 t3 e90 e104 e13 m19 m419 s53 m453 oX oO oK oD o224 o221 o222 oRg gN hxf4 hqd4 x7 pp1 pp2 pp3 pp4 pp5 pp6 P4 h0 y4' h3 hp0 hsg hsb hn0 hq0 hD; omega))]
    have n61 : Np 6 61 = Mq 6 61 := by rw [i6 61 (by decide) (by decide) (by decide) (by decide) (by decide)]; exact (PRD_Q d1).2 61 (by decide)
    have hT : Mx 1 18 = Mq 6 61 := hp.1.2.1.2.1.symm
    have p18 : Mp 1 18 = Mx 1 18 := (PRD_X hP).2.1 18 (by decide)
    have lc1 : lc_ b Mp = Mp 1 19 := by unfold lc_; rw [if_neg (by (clear hp hi hai h053 ha hxf hP hS hM hv hE4 hx8 h01 d1 d2 d3 d4 d5 d6 d7 d8 d9 d10 d11 d12 d13 d14 d15 d16 h1 h2 h4 h5 h6 h7' g1 g2 g3 g4 k1 k2 k3 k4 k5 k6 k7 x1 x2' x3' x4' q1 q2 q3 y1 y2 y3 y4 z1 z2 z3 z4 z5 z6 z7 z8 z9 z10 r6 i6 n90 n75 n104 n102 a75 a90 a102 a53 hP3 p1 p2 p3 p4 p5 p6 hR' f1 e1 xx qq c1 c2 c3 c4 c5 c6 c7 w1 w2 w3 w4 s1 s2 s3 s4 s5 s6 lbt msk t1 t2 t3 e90 e104 e13 m19 m419 s53 m453 oX oO oK oD o224 o221 o222 oRg gN hxf4 hqd4 x7 pp1 pp2 pp3 pp4 pp5 pp6 P4 h0 y4' h3 hp0 hsg hsb hn0 hq0 hD n61 hT p18; lia))]
    have lc3 : lc_ b M3 = M3 1 19 := by unfold lc_; rw [if_neg (by (clear hp hi hai h053 ha hxf hP hS hM hv hE4 hx8 h01 d1 d2 d3 d4 d5 d6 d7 d8 d9 d10 d11 d12 d13 d14 d15 d16 h1 h2 h4 h5 h6 h7' g1 g2 g3 g4 k1 k2 k3 k4 k5 k6 k7 x1 x2' x3' x4' q1 q2 q3 y1 y2 y3 y4 z1 z2 z3 z4 z5 z6 z7 z8 z9 z10 r6 i6 n90 n75 n104 n102 a75 a90 a102 a53 hP3 p1 p2 p3 p4 p5 p6 hR' f1 e1 xx qq c1 c2 c3 c4 c5 c6 c7 w1 w2 w3 w4 s1 s2 s3 s4 s5 s6 lbt msk t1 t2 t3 e90 e104 e13 m19 m419 s53 m453 oX oO oK oD o224 o221 o222 oRg gN hxf4 hqd4 x7 pp1 pp2 pp3 pp4 pp5 pp6 P4 h0 y4' h3 hp0 hsg hsb hn0 hq0 hD n61 hT p18 lc1; lia))]
    have cp : Mp 5 3 = M 5 3 + 2 * i + 3 := by rw [x2', if_neg (by (clear hp hi hai h053 ha hxf hP hS hM hv hE4 hx8 h01 d1 d2 d3 d4 d5 d6 d7 d8 d9 d10 d11 d12 d13 d14 d15 d16 h1 h2 h4 h5 h6 h7' g1 g2 g3 g4 k1 k2 k3 k4 k5 k6 k7 x1 x2' x3' x4' q1 q2 q3 y1 y2 y3 y4 z1 z2 z3 z4 z5 z6 z7 z8 z9 z10 r6 i6 n90 n75 n104 n102 a75 a90 a102 a53 hP3 p1 p2 p3 p4 p5 p6 hR' f1 e1 xx qq c1 c2 c3 c4 c5 c6 c7 w1 w2 w3 w4 s1 s2 s3 s4 s5 s6 lbt msk t1 t2 t3 e90 e104 e13 m19 m419 s53 m453 oX oO oK oD o224 o221 o222 oRg gN hxf4 hqd4 x7 pp1 pp2 pp3 pp4 pp5 pp6 P4 h0 y4' h3 hp0 hsg hsb hn0 hq0 hD n61 hT p18 lc1 lc3; lia))]; (clear hp hi hai h053 ha hxf hP hS hM hv hE4 hx8 h01 d1 d2 d3 d4 d5 d6 d7 d8 d9 d10 d11 d12 d13 d14 d15 d16 h1 h2 h4 h5 h6 h7' g1 g2 g3 g4 k1 k2 k3 k4 k5 k6 k7 x1 x2' x3' x4' q1 q2 q3 y1 y2 y3 y4 z1 z2 z3 z4 z5 z6 z7 z8 z9 z10 r6 i6 n90 n75 n104 n102 a75 a90 a102 a53 hP3 p1 p2 p3 p4 p5 p6 hR' f1 e1 xx qq c1 c2 c3 c4 c5 c6 c7 w1 w2 w3 w4 s1 s2 s3 s4 s5 s6 lbt msk t1 t2 t3 e90 e104 e13 m19 m419 s53 m453 oX oO oK oD o224 o221 o222 oRg gN hxf4 hqd4 x7 pp1 pp2 pp3 pp4 pp5 pp6 P4 hb h0 y4' h3 hp0 hsg hsb hn0 hq0 hD n61 hT p18 lc1 lc3; lia)
    rw [n61, n75, n90, m19, cp] at hsg
    rw [n75] at hsb
    have tc34 : tc_ (Mq 6 61) N3 N4 := ⟨⟨z1 _ (by decide), z1 _ (by decide), z1 _ (by decide), z1 _ (by decide), z1 _ (by decide)⟩, z1 _ (by decide), z1 _ (by decide), z1 _ (by decide), z1 _ (by decide), by rw [z1 175 (by decide)], z2 17 (by decide) (by decide), z2 18 (by decide) (by decide), z2 19 (by decide) (by decide)⟩
    have tcp3 := PRC_tc hb hR' (T := Mq 6 61)
    have tcN : tc_ (Mq 6 61) N N4 := by
      obtain ⟨⟨u1, u2, u3, u4, u5⟩, u6, u7, u8, u9, u10, u11, u12, u13⟩ := tcp3
      obtain ⟨⟨v1, v2, v3, v4, v5⟩, v6, v7, v8, v9, v10, v11, v12, v13⟩ := tc34
      refine ⟨⟨by rw [v1, u1, r6 171 (by decide)], by rw [v2, u2, r6 173 (by decide)], by rw [v3, u3, r6 182 (by decide)], by rw [v4, u4, r6 183 (by decide)], by rw [v5, u5, r6 184 (by decide)]⟩, by rw [v6, u6, r6 156 (by decide)], by rw [v7, u7, r6 157 (by decide)], by rw [v8, u8, r6 170 (by decide)], by rw [v9, u9, r6 174 (by decide)], by rw [v10, u10, r6 175 (by decide)], by rw [v11, u11]; exact i6 17 (by decide) (by decide) (by decide) (by decide) (by decide), by rw [v12, u12]; exact i6 18 (by decide) (by decide) (by decide) (by decide) (by decide), by rw [v13, u13]; exact i6 19 (by decide) (by decide) (by decide) (by decide) (by decide)⟩
    have sg4 : SEG M4 N4 (Mq 6 61) (N 6 75) (N3 6 75) (M 5 3 + 2 * i + 3) (M3 5 3) (N 6 90 + i) (N4 6 90) (N4 6 104) (M 1 19) (M4 1 19) v := by
      rw [e90, m419]
      exact SEG_c hsg (fun j x y => y4'.2.2.2.2 j (by (clear hp hi hai ha hxf hP hS hM hv hE4 hx8 h01 d1 d2 d3 d4 d5 d6 d7 d8 d9 d10 d11 d12 d13 d14 d15 d16 h1 h2 h4 h5 h6 h7' g2 g3 g4 k1 k2 k3 k5 k6 k7 x1 x3' x4' q1 q2 q3 y1 y2 y3 y4 z1 z2 z3 z4 z5 z6 z7 z8 z9 z10 r6 i6 n75 n104 n102 a75 a90 a102 a53 hP3 p1 p2 p3 p4 p5 p6 hR' f1 e1 xx qq c1 c2 c3 c4 c5 c6 c7 w1 w2 w3 w4 s1 s2 s3 s4 s5 s6 lbt msk t1 t2 t3 e90 e104 e13 m19 m419 s53 m453 oX oO oK oD o224 o221 oRg gN hxf4 hqd4 x7 pp1 pp2 pp3 pp4 pp5 pp6 P4 hb h0 y4' h3 hp0 hsg hsb hn0 hq0 hD n61 hT p18 lc1 lc3 tc34 tcp3 tcN y; lia)) y) (fun j x y => ⟨by rw [z1 216 (by decide)], by rw [z1 217 (by decide)], by rw [z1 218 (by decide)], by rw [z1 219 (by decide)]⟩) (fun r j hr x y => z5 r j hr (by (clear hp hi hai h053 ha hxf hP hS hM hv hE4 hx8 h01 d1 d2 d3 d4 d5 d6 d7 d8 d9 d10 d11 d12 d13 d14 d15 d16 h1 h2 h4 h5 h6 h7' g1 g2 g3 g4 k1 k2 k3 k4 k5 k6 k7 x1 x2' x3' x4' q1 q2 q3 y1 y2 y3 y4 z1 z2 z3 z4 z5 z6 z7 z8 z10 r6 i6 n90 n75 n104 n102 a75 a90 a102 a53 hP3 p1 p2 p3 p4 p5 p6 hR' f1 e1 xx qq c1 c2 c3 c4 c5 c6 c7 w1 w2 w3 w4 s1 s2 s3 s4 s5 s6 lbt msk t1 t2 t3 e90 e104 e13 m19 m419 s53 m453 oX oO oK oD o224 o221 o222 oRg gN hxf4 hqd4 x7 pp1 pp2 pp3 pp4 pp5 pp6 P4 hb h0 y4' h3 hp0 hsg hsb hn0 hq0 hD n61 hT p18 lc1 lc3 cp tc34 tcp3 tcN hr x; lia))) (fun j x y => by rw [z1 209 (by decide)]) (fun j x y => by rw [z1 227 (by decide), z1 228 (by decide)]; exact ⟨rfl, rfl⟩) tc34 (by (clear hp hi hai h053 ha hxf hP hS hM hv hE4 hx8 h01 d1 d2 d3 d4 d5 d6 d7 d8 d9 d10 d11 d12 d13 d14 d15 d16 h1 h2 h4 h5 h6 h7' g1 g2 g3 g4 k1 k2 k3 k4 k5 k6 k7 x1 x2' x3' x4' q1 q2 q3 y1 y2 y3 y4 z1 z2 z3 z4 z5 z6 z7 z8 z9 z10 r6 i6 n90 n75 n104 n102 a75 a90 a102 a53 hP3 p1 p2 p3 p4 p5 p6 hR' f1 e1 xx qq c1 c2 c3 c4 c5 c6 c7 w1 w2 w3 w4 s1 s2 s3 s4 s5 s6 lbt msk t1 t2 t3 e90 e13 m19 m419 s53 m453 oX oO oK oD o224 o221 o222 oRg gN hxf4 hqd4 x7 pp1 pp2 pp3 pp4 pp5 pp6 P4 hb h0 y4' h3 hp0 hsg hsb hn0 hq0 hD n61 hT p18 lc1 lc3 cp tc34 tcp3 tcN; omega)) (fun l x y => by rw [y1 129 (by decide) (by decide), z1 188 (by decide)]; exact ⟨rfl, rfl⟩)
    have c4' : ∀ j, 0 ≤ j → j < Mp 5 3 → j ≠ M 5 3 + 2 * i + 2 → M4 142 j = Mp 142 j := fun j x y hn => by rw [y4'.2.2.2.2 j hn (by (clear hp hi hai h053 ha hxf hP hS hM hv hE4 hx8 h01 d1 d2 d3 d4 d5 d6 d7 d8 d9 d10 d11 d12 d13 d14 d15 d16 h1 h2 h4 h5 h6 h7' g1 g2 g3 g4 k1 k2 k3 k4 k5 k6 k7 x1 x2' x3' x4' q1 q2 q3 y1 y2 y3 y4 z1 z2 z3 z4 z5 z6 z7 z8 z9 z10 r6 i6 n90 n75 n104 n102 a75 a90 a102 a53 hP3 p1 p2 p3 p4 p5 p6 hR' f1 e1 xx qq c1 c2 c3 c4 c5 c6 c7 w1 w2 w3 w4 s1 s2 s3 s5 s6 lbt msk t1 t2 t3 e90 e104 e13 m19 m419 s53 m453 oX oO oK oD o224 o221 o222 oRg gN hxf4 hqd4 x7 pp1 pp2 pp3 pp4 pp5 pp6 P4 hb h0 h3 hp0 hsg hsb hn0 hq0 hD n61 hT p18 lc1 lc3 cp tc34 tcp3 tcN sg4 x hn; omega)), c1 j x y]
    have i18 := hp.1.2.1.2.1
    have a104 := hp.1.2.2.2.2.1
    refine DS_1 (i := i) (ke := N3 6 75) (ce := M3 5 3) (v := v) hD d11 ⟨a90.1, by (clear hp hi hai h053 ha hxf hP hS hM hv hE4 hx8 h01 d1 d2 d3 d4 d5 d6 d7 d8 d9 d10 d11 d12 d13 d14 d15 d16 h1 h2 h4 h5 h6 h7' g1 g2 g3 g4 k1 k2 k3 k4 k5 k6 k7 x1 x2' x3' x4' q1 q2 q3 y1 y2 y3 y4 z1 z2 z3 z4 z5 z6 z7 z8 z9 z10 r6 i6 n90 n75 n104 n102 a75 a90 a102 a53 hP3 p1 p2 p3 p4 p6 hR' f1 e1 xx qq c1 c2 c3 c4 c5 c6 c7 w1 w2 w3 w4 s1 s2 s3 s4 s5 s6 lbt msk t1 t2 t3 e90 e104 e13 m19 m419 s53 m453 oX oO oK oD o224 o221 o222 oRg gN hxf4 hqd4 x7 pp1 pp2 pp3 pp4 pp5 pp6 P4 hb h0 y4' h3 hp0 hsg hsb hn0 hq0 hD n61 hT p18 lc1 lc3 cp tc34 tcp3 tcN sg4 c4' i18 a104; lia)⟩ a53 ⟨a75.1, d12⟩ d6.2 d6.1 hi hv ⟨by (clear hp hi hai h053 ha hxf hP hS hM hv hE4 hx8 h01 d1 d2 d3 d4 d5 d6 d7 d8 d9 d10 d11 d12 d13 d14 d15 d16 h1 h2 h4 h5 h6 h7' g1 g2 g3 g4 k1 k2 k3 k4 k5 k6 k7 x1 x2' x3' x4' q1 q2 q3 y1 y2 y3 y4 z1 z2 z3 z4 z5 z6 z7 z8 z9 z10 r6 i6 n90 n75 n104 n102 a75 a90 a102 a53 hP3 p1 p2 p4 p5 p6 hR' f1 e1 xx qq c1 c2 c3 c4 c5 c6 c7 w1 w2 w3 w4 s1 s2 s3 s4 s5 s6 lbt msk t1 t2 t3 e90 e104 e13 m19 m419 s53 m453 oX oO oK oD o224 o221 o222 oRg gN hxf4 hqd4 x7 pp1 pp2 pp3 pp4 pp5 pp6 P4 hb h0 y4' h3 hp0 hsg hsb hn0 hq0 hD n61 hT p18 lc1 lc3 cp tc34 tcp3 tcN sg4 c4' i18; omega), by (clear hp hi hai h053 ha hxf hP hS hM hv hE4 hx8 h01 d1 d2 d3 d4 d5 d6 d7 d8 d9 d10 d11 d12 d13 d14 d15 d16 h1 h2 h4 h5 h6 h7' g1 g2 g3 g4 k1 k2 k3 k4 k5 k6 k7 x1 x2' x3' x4' q1 q2 q3 y1 y2 y3 y4 z1 z2 z3 z4 z5 z6 z7 z8 z9 z10 r6 i6 n90 n75 n102 a75 a90 a102 a53 hP3 p1 p2 p3 p4 p5 p6 hR' f1 e1 xx qq c1 c2 c3 c4 c5 c6 c7 w1 w2 w3 w4 s1 s2 s4 s5 s6 lbt msk t1 t2 t3 e90 e13 m19 m419 s53 m453 oX oO oK oD o224 o221 o222 oRg gN hxf4 hqd4 x7 pp1 pp2 pp3 pp4 pp5 pp6 P4 hb h0 y4' h3 hp0 hsg hsb hn0 hq0 hD n61 hT p18 lc1 lc3 cp tc34 tcp3 tcN sg4 c4' i18 a104; omega)⟩ ⟨by have := (PRD_X d1); have q := d1.2.2.2.2.2.2.2.1; unfold lc_ at q; rw [if_neg (by (clear hp hi hai h053 ha hxf hP hS hM hv hE4 hx8 h01 d1 d2 d3 d4 d5 d6 d7 d8 d9 d10 d11 d12 d13 d14 d15 d16 h1 h2 h4 h5 h6 h7' g1 g2 g3 g4 k1 k2 k3 k4 k5 k6 k7 x1 x2' x3' x4' q1 q2 q3 y1 y2 y3 y4 z1 z2 z3 z4 z5 z6 z7 z8 z9 z10 r6 i6 n90 n75 n104 n102 a75 a90 a102 a53 hP3 p1 p2 p3 p4 p5 p6 hR' f1 e1 xx qq c1 c2 c3 c4 c5 c6 c7 w1 w2 w3 w4 s1 s2 s3 s4 s5 s6 lbt msk t1 t2 t3 e90 e104 e13 m19 m419 s53 m453 oX oO oK oD o224 o221 o222 oRg gN hxf4 hqd4 x7 pp1 pp2 pp3 pp4 pp5 pp6 P4 h0 y4' h3 hp0 hsg hsb hn0 hq0 hD n61 hT p18 lc1 lc3 cp tc34 tcp3 tcN sg4 c4' i18 a104 this q; lia)), if_neg (by (clear hp hi hai h053 ha hxf hP hS hM hv hE4 hx8 h01 d1 d2 d3 d4 d5 d6 d7 d8 d9 d10 d11 d12 d13 d14 d15 d16 h1 h2 h4 h5 h6 h7' g1 g2 g3 g4 k1 k2 k3 k4 k5 k6 k7 x1 x2' x3' x4' q1 q2 q3 y1 y2 y3 y4 z1 z2 z3 z4 z5 z6 z7 z8 z9 z10 r6 i6 n90 n75 n104 n102 a75 a90 a102 a53 hP3 p1 p2 p3 p4 p5 p6 hR' f1 e1 xx qq c1 c2 c3 c4 c5 c6 c7 w1 w2 w3 w4 s1 s2 s3 s4 s5 s6 lbt msk t1 t2 t3 e90 e104 e13 m19 m419 s53 m453 oX oO oK oD o224 o221 o222 oRg gN hxf4 hqd4 x7 pp1 pp2 pp3 pp4 pp5 pp6 P4 h0 y4' h3 hp0 hsg hsb hn0 hq0 hD n61 hT p18 lc1 lc3 cp tc34 tcp3 tcN sg4 c4' i18 a104 this q; lia))] at q; exact q, by (clear hp hi hai h053 ha hxf hP hS hM hv hE4 hx8 h01 d1 d2 d3 d4 d5 d6 d7 d8 d9 d10 d11 d12 d13 d14 d15 d16 h1 h2 h4 h5 h6 h7' g1 g2 g3 g4 k1 k2 k3 k4 k5 k6 k7 x1 x2' x3' x4' q1 q2 q3 y1 y2 y3 y4 z1 z2 z3 z4 z5 z6 z7 z8 z9 z10 r6 i6 n90 n75 n104 n102 a75 a90 a102 a53 hP3 p1 p2 p3 p4 p5 p6 hR' f1 e1 xx qq c1 c2 c3 c4 c5 c6 c7 w1 w2 w3 w4 s1 s2 s3 s4 s5 s6 lbt msk t2 t3 e90 e104 e13 s53 m453 oX oO oK oD o224 o221 o222 oRg gN hxf4 hqd4 x7 pp1 pp2 pp3 pp4 pp5 pp6 P4 hb h0 y4' h3 hp0 hsg hsb hn0 hq0 hD n61 hT p18 cp tc34 tcp3 tcN sg4 c4' i18 a104; lia)⟩ (by (clear hp hi hai h053 ha hxf hP hS hM hv hE4 hx8 h01 d1 d2 d3 d4 d5 d6 d7 d8 d9 d10 d11 d12 d13 d14 d15 d16 h1 h2 h4 h5 h6 h7' g1 g2 g3 g4 k1 k2 k3 k4 k5 k6 k7 x1 x2' x3' x4' q1 q2 q3 y1 y2 y3 y4 z1 z2 z3 z4 z5 z6 z7 z8 z10 r6 i6 n90 n104 n102 a75 a90 a102 a53 hP3 p1 p2 p3 p4 p5 p6 hR' f1 e1 xx qq c1 c2 c3 c4 c5 c6 c7 w1 w2 w3 w4 s1 s3 s4 s5 s6 lbt msk t1 t2 t3 e90 e104 e13 m19 m419 s53 m453 oX oO oK oD o224 o221 o222 oRg gN hxf4 hqd4 x7 pp1 pp2 pp3 pp4 pp5 pp6 P4 hb h0 y4' h3 hp0 hsg hsb hn0 hq0 hD n61 hT p18 lc1 lc3 cp tc34 tcp3 tcN sg4 c4' i18 a104; omega)) (by (clear hp hi hai h053 ha hxf hP hS hM hv hE4 hx8 h01 d1 d2 d3 d4 d5 d6 d7 d8 d9 d10 d11 d12 d13 d14 d15 d16 h1 h2 h4 h5 h6 h7' g2 g3 g4 k1 k2 k3 k4 k5 k6 k7 x1 x2' x3' x4' q1 q2 q3 y1 y2 y3 y4 z1 z2 z3 z4 z5 z6 z7 z8 z9 z10 r6 i6 n75 n104 n102 a75 a90 a102 a53 hP3 p1 p2 p3 p4 p5 p6 hR' f1 e1 xx qq c1 c2 c3 c4 c5 c6 c7 w1 w2 w3 w4 s1 s2 s3 s4 s6 lbt msk t1 t2 t3 e104 e13 m19 m419 s53 m453 oX oO oK oD o224 o221 oRg gN hxf4 hqd4 x7 pp1 pp2 pp3 pp4 pp5 pp6 P4 hb h0 y4' h3 hp0 hsg hsb hn0 hq0 hD n61 hT p18 lc1 lc3 cp tc34 tcp3 tcN sg4 c4' i18 a104; omega)) oX oO oK (fun j x y => ?_) (fun j x y => ?_) tcN (fun j x y => ?_) (fun h => ?_) (fun l x y => ?_) sg4 ?_ ?_ ?_ y4'.2.2.2.1 o222 ?_ z7 (by rw [z8, o224]) z9 y4'.2.1 y4'.2.2.1 z3 y4'.1 ?_
    · rw [z1 209 (by decide), c3 j x (by (clear hp hi hai h053 ha hxf hP hS hM hv hE4 hx8 h01 d1 d2 d3 d4 d5 d6 d7 d8 d9 d10 d11 d12 d13 d14 d15 d16 h1 h2 h4 h5 h6 h7' g1 g2 g3 g4 k1 k2 k3 k4 k5 k6 k7 x1 x2' x3' x4' q1 q2 q3 y1 y2 y3 y4 z1 z2 z3 z4 z5 z6 z7 z8 z9 z10 r6 i6 n90 n104 n102 a75 a90 a102 a53 hP3 p1 p2 p3 p4 p5 p6 hR' f1 e1 xx qq c1 c2 c3 c4 c5 c6 c7 w1 w2 w3 w4 s1 s2 s3 s4 s5 s6 lbt msk t1 t2 t3 e90 e104 e13 m19 m419 s53 m453 oX oO oK oD o224 o221 o222 oRg gN hxf4 hqd4 x7 pp1 pp2 pp3 pp4 pp5 pp6 P4 hb h0 y4' h3 hp0 hsg hsb hn0 hq0 hD n61 hT p18 lc1 lc3 cp tc34 tcp3 tcN sg4 c4' i18 a104 x; lia)), r6 209 (by decide)]
    · rw [z1 227 (by decide), z1 228 (by decide), (c4 j x (by (clear hp hi hai h053 ha hxf hP hS hM hv hE4 hx8 h01 d1 d2 d3 d4 d5 d6 d7 d8 d9 d10 d11 d12 d13 d14 d15 d16 h1 h2 h4 h5 h6 h7' g1 g2 g3 g4 k1 k2 k3 k4 k5 k6 k7 x1 x2' x3' x4' q1 q2 q3 y1 y2 y3 y4 z1 z2 z3 z4 z5 z6 z7 z8 z9 z10 r6 i6 n90 n75 n102 a75 a90 a102 a53 hP3 p1 p2 p3 p4 p5 p6 hR' f1 e1 xx qq c1 c2 c3 c4 c5 c6 c7 w1 w2 w3 w4 s1 s2 s3 s4 s5 s6 lbt msk t1 t2 t3 e90 e104 e13 m19 m419 s53 m453 oX oO oK oD o224 o221 o222 oRg gN hxf4 hqd4 x7 pp1 pp2 pp3 pp4 pp5 pp6 P4 hb h0 y4' h3 hp0 hsg hsb hn0 hq0 hD n61 hT p18 lc1 lc3 cp tc34 tcp3 tcN sg4 c4' i18 a104 x; lia))).1, (c4 j x (by omega)).2, r6 227 (by decide), r6 228 (by decide)]; exact ⟨rfl, rfl⟩
    · rw [oRg 216 j (by decide) x (by (clear hp hai h053 ha hxf hP hS hM hv hE4 hx8 h01 d1 d2 d3 d4 d5 d6 d7 d8 d9 d10 d11 d12 d13 d14 d15 d16 h1 h2 h4 h5 h6 h7' g2 g3 g4 k1 k2 k3 k4 k5 k6 k7 x1 x2' x3' x4' q1 q2 q3 y1 y2 y3 y4 z1 z2 z3 z4 z5 z6 z7 z8 z9 z10 r6 i6 n75 n104 n102 a75 a90 a102 a53 hP3 p1 p2 p3 p4 p5 p6 hR' f1 e1 xx qq c1 c2 c3 c4 c5 c6 c7 w1 w2 w3 w4 s1 s2 s3 s4 s5 s6 lbt msk t1 t2 t3 e90 e104 e13 m19 m419 s53 m453 oX oO oK oD o224 o221 oRg gN hxf4 hqd4 x7 pp1 pp2 pp3 pp4 pp5 pp6 P4 hb h0 y4' h3 hp0 hsg hsb hn0 hq0 hD n61 hT p18 lc1 lc3 cp tc34 tcp3 tcN sg4 c4' i18 a104 x; lia)), oRg 217 j (by decide) x (by (clear hp hai h053 ha hxf hP hS hM hv hE4 hx8 h01 d1 d2 d3 d4 d5 d6 d7 d8 d9 d10 d11 d12 d13 d14 d15 d16 h1 h2 h4 h5 h6 h7' g2 g3 g4 k1 k2 k3 k4 k5 k6 k7 x1 x2' x3' x4' q1 q2 q3 y1 y2 y3 y4 z1 z2 z3 z4 z5 z6 z7 z8 z9 z10 r6 i6 n75 n104 n102 a75 a90 a102 a53 hP3 p1 p2 p3 p4 p5 p6 hR' f1 e1 xx qq c1 c2 c3 c4 c5 c6 c7 w1 w2 w3 w4 s1 s2 s3 s4 s5 s6 lbt msk t1 t2 t3 e90 e104 e13 m19 m419 s53 m453 oX oO oK oD o224 o221 oRg gN hxf4 hqd4 x7 pp1 pp2 pp3 pp4 pp5 pp6 P4 hb h0 y4' h3 hp0 hsg hsb hn0 hq0 hD n61 hT p18 lc1 lc3 cp tc34 tcp3 tcN sg4 c4' i18 a104 x; lia)), oRg 218 j (by decide) x (by (clear hp hai h053 ha hxf hP hS hM hv hE4 hx8 h01 d1 d2 d3 d4 d5 d6 d7 d8 d9 d10 d11 d12 d13 d14 d15 d16 h1 h2 h4 h5 h6 h7' g2 g3 g4 k1 k2 k3 k4 k5 k6 k7 x1 x2' x3' x4' q1 q2 q3 y1 y2 y3 y4 z1 z2 z3 z4 z5 z6 z7 z8 z9 z10 r6 i6 n75 n104 n102 a75 a90 a102 a53 hP3 p1 p2 p3 p4 p5 p6 hR' f1 e1 xx qq c1 c2 c3 c4 c5 c6 c7 w1 w2 w3 w4 s1 s2 s3 s4 s5 s6 lbt msk t1 t2 t3 e90 e104 e13 m19 m419 s53 m453 oX oO oK oD o224 o221 oRg gN hxf4 hqd4 x7 pp1 pp2 pp3 pp4 pp5 pp6 P4 hb h0 y4' h3 hp0 hsg hsb hn0 hq0 hD n61 hT p18 lc1 lc3 cp tc34 tcp3 tcN sg4 c4' i18 a104 x; omega)), oRg 219 j (by decide) x (by (clear hp hai h053 ha hxf hP hS hM hv hE4 hx8 h01 d1 d2 d3 d4 d5 d6 d7 d8 d9 d10 d11 d12 d13 d14 d15 d16 h1 h2 h4 h5 h6 h7' g2 g3 g4 k1 k2 k3 k4 k5 k6 k7 x1 x2' x3' x4' q1 q2 q3 y1 y2 y3 y4 z1 z2 z3 z4 z5 z6 z7 z8 z9 z10 r6 i6 n75 n104 n102 a75 a90 a102 a53 hP3 p1 p2 p3 p4 p5 p6 hR' f1 e1 xx qq c1 c2 c3 c4 c5 c6 c7 w1 w2 w3 w4 s1 s2 s3 s4 s5 s6 lbt msk t1 t2 t3 e90 e104 e13 m19 m419 s53 m453 oX oO oK oD o224 o221 oRg gN hxf4 hqd4 x7 pp1 pp2 pp3 pp4 pp5 pp6 P4 hb h0 y4' h3 hp0 hsg hsb hn0 hq0 hD n61 hT p18 lc1 lc3 cp tc34 tcp3 tcN sg4 c4' i18 a104 x; lia))]
      exact k1 j y
    · rw [oRg 219 _ (by decide) h (by (clear hp hai h053 ha hxf hP hS hM hv hE4 hx8 h01 d1 d2 d3 d4 d5 d7 d8 d9 d10 d11 d12 d13 d14 d15 d16 h1 h2 h4 h5 h6 h7' g2 g3 g4 k1 k2 k3 k4 k5 k6 k7 x1 x2' x3' x4' q1 q2 q3 y1 y2 y3 y4 z1 z2 z3 z4 z5 z6 z7 z8 z9 z10 r6 i6 n75 n104 n102 a75 a90 a102 a53 hP3 p1 p2 p3 p4 p5 p6 hR' f1 e1 xx qq c1 c2 c3 c4 c5 c6 c7 w1 w2 w3 w4 s1 s2 s3 s4 s5 s6 lbt msk t1 t2 t3 e90 e104 e13 m19 m419 s53 m453 oX oO oK oD o224 o221 oRg gN hxf4 hqd4 x7 pp1 pp2 pp3 pp4 pp5 pp6 P4 hb h0 y4' h3 hp0 hsg hsb hn0 hq0 hD n61 hT p18 lc1 lc3 cp tc34 tcp3 tcN sg4 c4' i18 a104 h; lia)), k2 h, if_neg (by (clear hp hai h053 ha hxf hP hS hM hv hE4 hx8 h01 d1 d2 d3 d4 d5 d6 d7 d8 d9 d10 d11 d12 d13 d14 d15 d16 h1 h2 h4 h5 h6 h7' g2 g3 g4 k1 k2 k3 k4 k5 k6 k7 x1 x2' x3' x4' q1 q2 q3 y1 y2 y3 y4 z1 z2 z3 z4 z5 z6 z7 z8 z9 z10 r6 i6 n75 n104 n102 a75 a90 a102 a53 hP3 p1 p2 p3 p4 p5 p6 hR' f1 e1 xx qq c1 c2 c3 c4 c5 c6 c7 w1 w2 w3 w4 s1 s2 s3 s4 s5 s6 lbt msk t1 t2 t3 e90 e104 e13 m19 m419 s53 m453 oX oO oK oD o224 o221 oRg gN hxf4 hqd4 x7 pp1 pp2 pp3 pp4 pp5 pp6 P4 hb h0 y4' h3 hp0 hsg hsb hn0 hq0 hD n61 hT p18 lc1 lc3 cp tc34 tcp3 tcN sg4 c4' i18 a104 h; lia))]
    · have q := w4 (10 * Mq 6 61 + l) (.inl (by rw [p18, hT, lc1, m19]; (clear hp hi hai h053 ha hxf hP hS hM hv hE4 hx8 h01 d1 d2 d3 d4 d5 d6 d7 d8 d9 d10 d11 d12 d13 d14 d15 d16 h1 h2 h4 h5 h6 h7' g1 g2 g3 g4 k1 k2 k3 k4 k5 k6 k7 x1 x2' x3' x4' q1 q2 q3 y1 y2 y3 y4 z1 z2 z3 z4 z5 z6 z7 z8 z9 z10 r6 i6 n90 n75 n104 n102 a75 a90 a102 a53 hP3 p1 p2 p3 p4 p5 p6 hR' f1 e1 xx qq c1 c2 c3 c4 c5 c6 c7 w1 w2 w3 w4 s1 s2 s3 s4 s5 s6 lbt msk t1 t2 t3 e90 e104 e13 m19 m419 s53 m453 oX oO oK oD o224 o221 o222 oRg gN hxf4 hqd4 x7 pp1 pp2 pp3 pp4 pp5 pp6 P4 hb h0 y4' h3 hp0 hsg hsb hn0 hq0 hD n61 hT p18 lc1 lc3 cp tc34 tcp3 tcN sg4 c4' i18 a104 x; lia)))
      rw [y1 129 (by decide) (by decide), z1 188 (by decide), q.1.2, q.2.2.2.1, hxf.1 129 (by decide), r6 188 (by decide)]
      exact ⟨rfl, rfl⟩
    · rw [c4' _ (by (clear hp hi hai ha hxf hP hS hM hv hE4 hx8 h01 d1 d2 d3 d4 d5 d6 d7 d8 d9 d10 d11 d12 d13 d14 d15 d16 h1 h2 h4 h5 h6 h7' g2 g3 g4 k1 k2 k3 k5 k6 k7 x1 x3' x4' q1 q2 q3 y1 y2 y3 y4 z1 z2 z3 z4 z5 z6 z7 z8 z9 z10 r6 i6 n75 n104 n102 a75 a90 a102 hP3 p1 p2 p3 p5 p6 hR' f1 e1 xx qq c1 c2 c3 c4 c5 c6 c7 w1 w2 w3 w4 s1 s2 s3 s4 s5 s6 lbt msk t1 t2 t3 e90 e104 e13 m19 m419 s53 m453 oX oO oK oD o224 o221 oRg gN hxf4 hqd4 x7 pp1 pp2 pp3 pp4 pp5 pp6 P4 hb h0 y4' h3 hp0 hsg hsb hn0 hq0 hD n61 hT p18 lc1 lc3 tc34 tcp3 tcN sg4 c4' i18 a104; lia)) (by (clear hp hai ha hxf hP hS hM hv hE4 hx8 h01 d1 d2 d3 d4 d5 d6 d7 d8 d9 d10 d11 d12 d13 d14 d15 d16 h1 h2 h4 h5 h6 h7' g2 g3 g4 k1 k2 k3 k5 k6 k7 x1 x3' x4' q1 q2 q3 y1 y2 y3 y4 z1 z2 z3 z4 z5 z6 z7 z8 z9 z10 r6 i6 n75 n104 n102 a75 a90 a102 a53 hP3 p1 p2 p3 p4 p5 p6 hR' f1 e1 xx qq c1 c2 c3 c4 c5 c6 c7 w1 w2 w3 w4 s1 s2 s3 s4 s5 s6 lbt msk t1 t2 t3 e90 e104 e13 m19 m419 s53 m453 oX oO oK oD o224 o221 oRg gN hxf4 hqd4 x7 pp1 pp2 pp3 pp4 pp5 pp6 P4 hb h0 y4' h3 hp0 hsg hsb hn0 hq0 hD n61 hT p18 lc1 lc3 tc34 tcp3 tcN sg4 c4' i18 a104; lia)) (by (clear hp hai h053 ha hxf hP hS hM hv hE4 hx8 h01 d1 d2 d3 d4 d5 d6 d7 d8 d9 d10 d11 d12 d13 d14 d15 d16 h1 h2 h4 h5 h6 h7' g2 g3 g4 k1 k2 k3 k4 k5 k6 k7 x1 x2' x3' x4' q1 q2 q3 y1 y2 y3 y4 z1 z2 z3 z4 z5 z6 z7 z8 z9 z10 r6 i6 n75 n104 n102 a75 a90 a102 a53 hP3 p1 p2 p3 p4 p5 p6 hR' f1 e1 xx qq c1 c2 c3 c4 c5 c6 c7 w1 w2 w3 w4 s1 s2 s3 s4 s5 s6 lbt msk t1 t2 t3 e90 e104 e13 m19 m419 s53 m453 oX oO oK oD o224 o221 oRg gN hxf4 hqd4 x7 pp1 pp2 pp3 pp4 pp5 pp6 P4 hb h0 y4' h3 hp0 hsg hsb hn0 hq0 hD n61 hT p18 lc1 lc3 cp tc34 tcp3 tcN sg4 c4' i18 a104; lia))]; exact (x4' hb).1
    · rw [c4' _ (by (clear hp hi hai ha hxf hP hS hM hv hE4 hx8 h01 d1 d2 d3 d4 d5 d6 d7 d8 d9 d10 d11 d12 d13 d14 d15 d16 h1 h2 h4 h5 h6 h7' g2 g3 g4 k1 k2 k3 k5 k6 k7 x1 x3' x4' q1 q2 q3 y1 y2 y3 y4 z1 z2 z3 z4 z5 z6 z7 z8 z9 z10 r6 i6 n75 n104 n102 a75 a90 a102 hP3 p1 p2 p3 p5 p6 hR' f1 e1 xx qq c1 c2 c3 c4 c5 c6 c7 w1 w2 w3 w4 s1 s2 s3 s4 s5 s6 lbt msk t1 t2 t3 e90 e104 e13 m19 m419 s53 m453 oX oO oK oD o224 o221 oRg gN hxf4 hqd4 x7 pp1 pp2 pp3 pp4 pp5 pp6 P4 hb h0 y4' h3 hp0 hsg hsb hn0 hq0 hD n61 hT p18 lc1 lc3 tc34 tcp3 tcN sg4 c4' i18 a104; lia)) (by (clear hp hai ha hxf hP hS hM hv hE4 hx8 h01 d1 d2 d3 d4 d5 d6 d7 d8 d9 d10 d11 d12 d13 d14 d15 d16 h1 h2 h4 h5 h6 h7' g2 g3 g4 k1 k2 k3 k5 k6 k7 x1 x3' x4' q1 q2 q3 y1 y2 y3 y4 z1 z2 z3 z4 z5 z6 z7 z8 z9 z10 r6 i6 n75 n104 n102 a75 a90 a102 a53 hP3 p1 p2 p3 p4 p5 p6 hR' f1 e1 xx qq c1 c2 c3 c4 c5 c6 c7 w1 w2 w3 w4 s1 s2 s3 s4 s5 s6 lbt msk t1 t2 t3 e90 e104 e13 m19 m419 s53 m453 oX oO oK oD o224 o221 oRg gN hxf4 hqd4 x7 pp1 pp2 pp3 pp4 pp5 pp6 P4 hb h0 y4' h3 hp0 hsg hsb hn0 hq0 hD n61 hT p18 lc1 lc3 tc34 tcp3 tcN sg4 c4' i18 a104; lia)) (by (clear hp hai h053 ha hxf hP hS hM hv hE4 hx8 h01 d1 d2 d3 d4 d5 d6 d7 d8 d9 d10 d11 d12 d13 d14 d15 d16 h1 h2 h4 h5 h6 h7' g2 g3 g4 k1 k2 k3 k4 k5 k6 k7 x1 x2' x3' x4' q1 q2 q3 y1 y2 y3 y4 z1 z2 z3 z4 z5 z6 z7 z8 z9 z10 r6 i6 n75 n104 n102 a75 a90 a102 a53 hP3 p1 p2 p3 p4 p5 p6 hR' f1 e1 xx qq c1 c2 c3 c4 c5 c6 c7 w1 w2 w3 w4 s1 s2 s3 s4 s5 s6 lbt msk t1 t2 t3 e90 e104 e13 m19 m419 s53 m453 oX oO oK oD o224 o221 oRg gN hxf4 hqd4 x7 pp1 pp2 pp3 pp4 pp5 pp6 P4 hb h0 y4' h3 hp0 hsg hsb hn0 hq0 hD n61 hT p18 lc1 lc3 cp tc34 tcp3 tcN sg4 c4' i18 a104; lia))]; exact (x4' hb).2.1
    · have e : N 6 90 + i - 1 = N 6 90 + (((i - 1).toNat : Nat) : Int) := by (clear hp hai h053 ha hxf hP hS hM hv hE4 hx8 h01 d1 d2 d3 d4 d5 d6 d7 d8 d9 d10 d11 d12 d13 d14 d15 d16 h1 h2 h4 h5 h6 h7' g2 g3 g4 k1 k2 k3 k4 k5 k6 k7 x1 x2' x3' x4' q1 q2 q3 y1 y2 y3 y4 z1 z2 z3 z4 z5 z6 z7 z8 z9 z10 r6 i6 n75 n104 n102 a75 a90 a102 a53 hP3 p1 p2 p3 p4 p5 p6 hR' f1 e1 xx qq c1 c2 c3 c4 c5 c6 c7 w1 w2 w3 w4 s1 s2 s3 s4 s5 s6 lbt msk t1 t2 t3 e90 e104 e13 m19 m419 s53 m453 oX oO oK oD o224 o221 oRg gN hxf4 hqd4 x7 pp1 pp2 pp3 pp4 pp5 pp6 P4 hb h0 y4' h3 hp0 hsg hsb hn0 hq0 hD n61 hT p18 lc1 lc3 cp tc34 tcp3 tcN sg4 c4' i18 a104; lia)
      rw [e]
      have m053 : M0 5 3 = M 5 3 + 2 := by rw [h053, if_neg (by (clear hp hi hai h053 ha hxf hP hS hM hv hE4 hx8 h01 d1 d2 d3 d4 d5 d6 d7 d8 d9 d10 d11 d12 d13 d14 d15 d16 h1 h2 h4 h5 h6 h7' g1 g2 g3 g4 k1 k2 k3 k4 k5 k6 k7 x1 x2' x3' x4' q1 q2 q3 y1 y2 y3 y4 z1 z2 z3 z4 z5 z6 z7 z8 z9 z10 r6 i6 n90 n75 n104 n102 a75 a90 a102 a53 hP3 p1 p2 p3 p4 p5 p6 hR' f1 e1 xx qq c1 c2 c3 c4 c5 c6 c7 w1 w2 w3 w4 s1 s2 s3 s4 s5 s6 lbt msk t1 t2 t3 e90 e104 e13 m19 m419 s53 m453 oX oO oK oD o224 o221 o222 oRg gN hxf4 hqd4 x7 pp1 pp2 pp3 pp4 pp5 pp6 P4 h0 y4' h3 hp0 hsg hsb hn0 hq0 hD n61 hT p18 lc1 lc3 cp tc34 tcp3 tcN sg4 c4' i18 a104 e; lia))]
      refine RGL_k _ (fun j x y => ⟨by (clear hp hi hai h053 ha hxf hP hS hM hv hE4 hx8 h01 d1 d2 d3 d4 d5 d6 d7 d8 d9 d10 d11 d12 d13 d14 d15 d16 h1 h2 h4 h5 h6 h7' g2 g3 g4 k1 k2 k3 k4 k5 k6 k7 x1 x2' x3' x4' q1 q2 q3 y1 y2 y3 y4 z1 z2 z3 z4 z5 z6 z7 z8 z9 z10 r6 i6 n75 n104 n102 a75 a90 a102 a53 hP3 p1 p2 p3 p4 p6 hR' f1 e1 xx qq c1 c2 c3 c4 c5 c6 c7 w1 w2 w3 w4 s1 s2 s3 s4 s6 lbt msk t1 t2 t3 e104 e13 m19 m419 s53 m453 oX oO oK oD o224 o221 oRg gN hxf4 hqd4 x7 pp1 pp2 pp3 pp4 pp5 pp6 P4 hb h0 y4' h3 hp0 hsg hsb hn0 hq0 hD n61 hT p18 lc1 lc3 cp tc34 tcp3 tcN sg4 c4' i18 a104 m053; lia), ?_⟩) (fun j x y => ?_)
      · have q := k3 j x (by (clear hp hi hai h053 ha hxf hP hS hM hv hE4 hx8 h01 d1 d2 d3 d4 d5 d6 d7 d8 d9 d10 d11 d12 d13 d14 d15 d16 h1 h2 h4 h5 h6 h7' g2 g3 g4 k1 k2 k3 k4 k5 k6 k7 x1 x2' x3' x4' q1 q2 q3 y1 y2 y3 y4 z1 z2 z3 z4 z5 z6 z7 z8 z9 z10 r6 i6 n75 n104 n102 a75 a90 a102 a53 hP3 p1 p2 p3 p4 p5 p6 hR' f1 e1 xx qq c1 c2 c3 c4 c5 c6 c7 w1 w2 w3 w4 s1 s2 s3 s4 s5 s6 lbt msk t1 t2 t3 e90 e104 e13 m19 m419 s53 m453 oX oO oK oD o224 o221 oRg gN hxf4 hqd4 x7 pp1 pp2 pp3 pp4 pp5 pp6 P4 hb h0 y4' h3 hp0 hsg hsb hn0 hq0 hD n61 hT p18 lc1 lc3 cp tc34 tcp3 tcN sg4 c4' i18 a104 m053 x; omega))
        have q3 := q.2.2 hb
        rw [m053] at q3
        unfold RNG
        rw [oRg 216 _ (by decide) (by (clear hp hi hai h053 ha hxf hP hS hM hv hE4 hx8 h01 d1 d2 d3 d4 d5 d7 d8 d9 d10 d11 d12 d13 d14 d15 d16 h1 h2 h4 h5 h6 h7' g2 g3 g4 k1 k2 k3 k4 k5 k6 k7 x1 x2' x3' x4' q1 q2 y1 y2 y3 y4 z1 z2 z3 z4 z5 z6 z7 z8 z9 z10 r6 i6 n75 n104 n102 a75 a90 a102 a53 hP3 p1 p2 p3 p4 p5 p6 hR' f1 e1 xx qq c1 c2 c3 c4 c5 c6 c7 w1 w2 w3 w4 s1 s2 s3 s4 s5 s6 lbt msk t1 t2 t3 e90 e104 e13 m19 m419 s53 m453 oX oO oK oD o224 o221 oRg gN hxf4 hqd4 x7 pp1 pp2 pp3 pp4 pp5 pp6 P4 hb h0 y4' h3 hp0 hsg hsb hn0 hq0 hD n61 hT p18 lc1 lc3 cp tc34 tcp3 tcN sg4 c4' i18 a104 m053 y q q3; lia)) (by (clear hp hi hai h053 ha hxf hP hS hM hv hE4 hx8 h01 d1 d2 d3 d4 d5 d6 d7 d8 d9 d10 d11 d12 d13 d14 d15 d16 h1 h2 h4 h5 h6 h7' g2 g3 g4 k1 k2 k3 k4 k5 k6 k7 x1 x2' x3' x4' q1 q2 y1 y2 y3 y4 z1 z2 z3 z4 z5 z6 z7 z8 z9 z10 r6 i6 n75 n104 n102 a75 a90 a102 a53 hP3 p1 p2 p3 p4 p5 p6 hR' f1 e1 xx qq c1 c2 c3 c4 c5 c6 c7 w1 w2 w3 w4 s1 s2 s3 s4 s5 s6 lbt msk t1 t2 t3 e90 e104 e13 m19 m419 s53 m453 oX oO oK oD o224 o221 oRg gN hxf4 hqd4 x7 pp1 pp2 pp3 pp4 pp5 pp6 P4 hb h0 y4' h3 hp0 hsg hsb hn0 hq0 hD n61 hT p18 lc1 lc3 cp tc34 tcp3 tcN sg4 c4' i18 a104 m053 x q q3; lia)), oRg 217 _ (by decide) (by (clear hp hi hai h053 ha hxf hP hS hM hv hE4 hx8 h01 d1 d2 d3 d4 d5 d7 d8 d9 d10 d11 d12 d13 d14 d15 d16 h1 h2 h4 h5 h6 h7' g2 g3 g4 k1 k2 k3 k4 k5 k6 k7 x1 x2' x3' x4' q1 q2 y1 y2 y3 y4 z1 z2 z3 z4 z5 z6 z7 z8 z9 z10 r6 i6 n75 n104 n102 a75 a90 a102 a53 hP3 p1 p2 p3 p4 p5 p6 hR' f1 e1 xx qq c1 c2 c3 c4 c5 c6 c7 w1 w2 w3 w4 s1 s2 s3 s4 s5 s6 lbt msk t1 t2 t3 e90 e104 e13 m19 m419 s53 m453 oX oO oK oD o224 o221 oRg gN hxf4 hqd4 x7 pp1 pp2 pp3 pp4 pp5 pp6 P4 hb h0 y4' h3 hp0 hsg hsb hn0 hq0 hD n61 hT p18 lc1 lc3 cp tc34 tcp3 tcN sg4 c4' i18 a104 m053 y q q3; lia)) (by (clear hp hi hai h053 ha hxf hP hS hM hv hE4 hx8 h01 d1 d2 d3 d4 d5 d6 d7 d8 d9 d10 d11 d12 d13 d14 d15 d16 h1 h2 h4 h5 h6 h7' g2 g3 g4 k1 k2 k3 k4 k5 k6 k7 x1 x2' x3' x4' q1 q2 y1 y2 y3 y4 z1 z2 z3 z4 z5 z6 z7 z8 z9 z10 r6 i6 n75 n104 n102 a75 a90 a102 a53 hP3 p1 p2 p3 p4 p5 p6 hR' f1 e1 xx qq c1 c2 c3 c4 c5 c6 c7 w1 w2 w3 w4 s1 s2 s3 s4 s5 s6 lbt msk t1 t2 t3 e90 e104 e13 m19 m419 s53 m453 oX oO oK oD o224 o221 oRg gN hxf4 hqd4 x7 pp1 pp2 pp3 pp4 pp5 pp6 P4 hb h0 y4' h3 hp0 hsg hsb hn0 hq0 hD n61 hT p18 lc1 lc3 cp tc34 tcp3 tcN sg4 c4' i18 a104 m053 x q q3; omega)), oRg 218 _ (by decide) (by (clear hp hi hai h053 ha hxf hP hS hM hv hE4 hx8 h01 d1 d2 d3 d4 d5 d7 d8 d9 d10 d11 d12 d13 d14 d15 d16 h1 h2 h4 h5 h6 h7' g2 g3 g4 k1 k2 k3 k4 k5 k6 k7 x1 x2' x3' x4' q1 q2 y1 y2 y3 y4 z1 z2 z3 z4 z5 z6 z7 z8 z9 z10 r6 i6 n75 n104 n102 a75 a90 a102 a53 hP3 p1 p2 p3 p4 p5 p6 hR' f1 e1 xx qq c1 c2 c3 c4 c5 c6 c7 w1 w2 w3 w4 s1 s2 s3 s4 s5 s6 lbt msk t1 t2 t3 e90 e104 e13 m19 m419 s53 m453 oX oO oK oD o224 o221 oRg gN hxf4 hqd4 x7 pp1 pp2 pp3 pp4 pp5 pp6 P4 hb h0 y4' h3 hp0 hsg hsb hn0 hq0 hD n61 hT p18 lc1 lc3 cp tc34 tcp3 tcN sg4 c4' i18 a104 m053 y q q3; lia)) (by omega), c4' _ (by (clear hp hi hai ha hxf hP hS hM hv hE4 hx8 h01 d1 d2 d3 d4 d5 d6 d7 d8 d9 d10 d11 d12 d13 d14 d15 d16 h1 h2 h4 h5 h6 h7' g2 g3 g4 k1 k2 k3 k5 k6 k7 x1 x3' x4' q1 q2 y1 y2 y3 y4 z1 z2 z3 z4 z5 z6 z7 z8 z9 z10 r6 i6 n75 n104 n102 a75 a90 a102 hP3 p1 p2 p3 p5 p6 hR' f1 e1 xx qq c1 c2 c3 c4 c5 c6 c7 w1 w2 w3 w4 s1 s2 s3 s4 s5 s6 lbt msk t1 t2 t3 e90 e104 e13 m19 m419 s53 m453 oX oO oK oD o224 o221 oRg gN hxf4 hqd4 x7 pp1 pp2 pp3 pp4 pp5 pp6 P4 hb h0 y4' h3 hp0 hsg hsb hn0 hq0 hD n61 hT p18 lc1 lc3 tc34 tcp3 tcN sg4 c4' i18 a104 m053 y q q3; lia)) (by (clear hp hi hai ha hxf hP hS hM hv hE4 hx8 h01 d1 d2 d3 d4 d5 d6 d7 d8 d9 d10 d11 d12 d13 d14 d15 d16 h1 h2 h4 h5 h6 h7' g2 g3 g4 k1 k2 k3 k5 k6 k7 x1 x3' x4' q1 q2 y1 y2 y3 y4 z1 z2 z3 z4 z5 z6 z7 z8 z9 z10 r6 i6 n75 n104 n102 a75 a90 a102 a53 hP3 p1 p2 p3 p4 p5 p6 hR' f1 e1 xx qq c1 c2 c3 c4 c5 c6 c7 w1 w2 w3 w4 s1 s2 s3 s4 s5 s6 lbt msk t1 t2 t3 e90 e104 e13 m19 m419 s53 m453 oX oO oK oD o224 o221 oRg gN hxf4 hqd4 x7 pp1 pp2 pp3 pp4 pp5 pp6 P4 hb h0 y4' h3 hp0 hsg hsb hn0 hq0 hD n61 hT p18 lc1 lc3 tc34 tcp3 tcN sg4 c4' i18 a104 m053 x q q3; lia)) (by (clear hp hi hai h053 ha hxf hP hS hM hv hE4 hx8 h01 d1 d2 d3 d4 d5 d6 d7 d8 d9 d10 d11 d12 d13 d14 d15 d16 h1 h2 h4 h5 h6 h7' g2 g3 g4 k1 k2 k3 k4 k5 k6 k7 x1 x2' x3' x4' q1 q2 y1 y2 y3 y4 z1 z2 z3 z4 z5 z6 z7 z8 z9 z10 r6 i6 n75 n104 n102 a75 a90 a102 a53 hP3 p1 p2 p3 p4 p5 p6 hR' f1 e1 xx qq c1 c2 c3 c4 c5 c6 c7 w1 w2 w3 w4 s1 s2 s3 s4 s5 s6 lbt msk t1 t2 t3 e90 e104 e13 m19 m419 s53 m453 oX oO oK oD o224 o221 oRg gN hxf4 hqd4 x7 pp1 pp2 pp3 pp4 pp5 pp6 P4 hb h0 y4' h3 hp0 hsg hsb hn0 hq0 hD n61 hT p18 lc1 lc3 cp tc34 tcp3 tcN sg4 c4' i18 a104 m053 x q q3; lia)), c4' _ (by (clear hp hi hai ha hxf hP hS hM hv hE4 hx8 h01 d1 d2 d3 d4 d5 d6 d7 d8 d9 d10 d11 d12 d13 d14 d15 d16 h1 h2 h4 h5 h6 h7' g2 g3 g4 k1 k2 k3 k5 k6 k7 x1 x3' x4' q1 q2 y1 y2 y3 y4 z1 z2 z3 z4 z5 z6 z7 z8 z9 z10 r6 i6 n75 n104 n102 a75 a90 a102 hP3 p1 p2 p3 p5 p6 hR' f1 e1 xx qq c1 c2 c3 c4 c5 c6 c7 w1 w2 w3 w4 s1 s2 s3 s4 s5 s6 lbt msk t1 t2 t3 e90 e104 e13 m19 m419 s53 m453 oX oO oK oD o224 o221 oRg gN hxf4 hqd4 x7 pp1 pp2 pp3 pp4 pp5 pp6 P4 hb h0 y4' h3 hp0 hsg hsb hn0 hq0 hD n61 hT p18 lc1 lc3 tc34 tcp3 tcN sg4 c4' i18 a104 m053 y q q3; lia)) (by (clear hp hi hai ha hxf hP hS hM hv hE4 hx8 h01 d1 d2 d3 d4 d5 d6 d7 d8 d9 d10 d11 d12 d13 d14 d15 d16 h1 h2 h4 h5 h6 h7' g2 g3 g4 k1 k2 k3 k5 k6 k7 x1 x3' x4' q1 q2 y1 y2 y3 y4 z1 z2 z3 z4 z5 z6 z7 z8 z9 z10 r6 i6 n75 n104 n102 a75 a90 a102 a53 hP3 p1 p2 p3 p4 p5 p6 hR' f1 e1 xx qq c1 c2 c3 c4 c5 c6 c7 w1 w2 w3 w4 s1 s2 s3 s4 s5 s6 lbt msk t1 t2 t3 e90 e104 e13 m19 m419 s53 m453 oX oO oK oD o224 o221 oRg gN hxf4 hqd4 x7 pp1 pp2 pp3 pp4 pp5 pp6 P4 hb h0 y4' h3 hp0 hsg hsb hn0 hq0 hD n61 hT p18 lc1 lc3 tc34 tcp3 tcN sg4 c4' i18 a104 m053 x q q3; lia)) (by (clear hp hi hai h053 ha hxf hP hS hM hv hE4 hx8 h01 d1 d2 d3 d4 d5 d6 d7 d8 d9 d10 d11 d12 d13 d14 d15 d16 h1 h2 h4 h5 h6 h7' g2 g3 g4 k1 k2 k3 k4 k5 k6 k7 x1 x2' x3' x4' q1 q2 y1 y2 y3 y4 z1 z2 z3 z4 z5 z6 z7 z8 z9 z10 r6 i6 n75 n104 n102 a75 a90 a102 a53 hP3 p1 p2 p3 p4 p5 p6 hR' f1 e1 xx qq c1 c2 c3 c4 c5 c6 c7 w1 w2 w3 w4 s1 s2 s3 s4 s5 s6 lbt msk t1 t2 t3 e90 e104 e13 m19 m419 s53 m453 oX oO oK oD o224 o221 oRg gN hxf4 hqd4 x7 pp1 pp2 pp3 pp4 pp5 pp6 P4 hb h0 y4' h3 hp0 hsg hsb hn0 hq0 hD n61 hT p18 lc1 lc3 cp tc34 tcp3 tcN sg4 c4' i18 a104 m053 x y q q3; lia)), (x4' hb).2.2 _ (by (clear hp hi hai h053 ha hxf hP hS hM hv hE4 hx8 h01 d1 d2 d3 d4 d5 d6 d7 d8 d9 d10 d11 d12 d13 d14 d15 d16 h1 h2 h4 h5 h6 h7' g1 g2 g3 g4 k1 k2 k3 k4 k5 k6 k7 x1 x2' x3' x4' q1 q2 y1 y2 y3 y4 z1 z2 z3 z4 z5 z6 z7 z8 z9 z10 r6 i6 n90 n75 n104 n102 a75 a90 a102 a53 hP3 p1 p2 p3 p4 p5 p6 hR' f1 e1 xx qq c1 c2 c3 c4 c5 c6 c7 w1 w2 w3 w4 s1 s2 s3 s4 s5 s6 lbt msk t1 t2 t3 e90 e104 e13 m19 m419 s53 m453 oX oO oK oD o224 o221 o222 oRg gN hxf4 hqd4 x7 pp1 pp2 pp3 pp4 pp5 pp6 P4 hb h0 y4' h3 hp0 hsg hsb hn0 hq0 hD n61 hT p18 lc1 lc3 cp tc34 tcp3 tcN sg4 c4' i18 a104 e m053 y q q3; lia)) (by (clear hp hi hai h053 ha hxf hP hS hM hv hE4 hx8 h01 d1 d2 d3 d4 d5 d6 d7 d8 d9 d10 d11 d12 d13 d14 d15 d16 h1 h2 h4 h5 h6 h7' g2 g3 g4 k1 k2 k3 k4 k5 k6 k7 x1 x2' x3' x4' q1 q2 y1 y2 y3 y4 z1 z2 z3 z4 z5 z6 z7 z8 z9 z10 r6 i6 n75 n104 n102 a75 a90 a102 a53 hP3 p1 p2 p3 p4 p5 p6 hR' f1 e1 xx qq c1 c2 c3 c4 c5 c6 c7 w1 w2 w3 w4 s1 s2 s3 s4 s5 s6 lbt msk t1 t2 t3 e90 e104 e13 m19 m419 s53 m453 oX oO oK oD o224 o221 oRg gN hxf4 hqd4 x7 pp1 pp2 pp3 pp4 pp5 pp6 P4 hb h0 y4' h3 hp0 hsg hsb hn0 hq0 hD n61 hT p18 lc1 lc3 cp tc34 tcp3 tcN sg4 c4' i18 a104 m053 x q q3; lia)), (x4' hb).2.2 _ (by (clear hp hi hai h053 ha hxf hP hS hM hv hE4 hx8 h01 d1 d2 d3 d4 d5 d6 d7 d8 d9 d10 d11 d12 d13 d14 d15 d16 h1 h2 h4 h5 h6 h7' g1 g2 g3 g4 k1 k2 k3 k4 k5 k6 k7 x1 x2' x3' x4' q1 q2 y1 y2 y3 y4 z1 z2 z3 z4 z5 z6 z7 z8 z9 z10 r6 i6 n90 n75 n104 n102 a75 a90 a102 a53 hP3 p1 p2 p3 p4 p5 p6 hR' f1 e1 xx qq c1 c2 c3 c4 c5 c6 c7 w1 w2 w3 w4 s1 s2 s3 s4 s5 s6 lbt msk t1 t2 t3 e90 e104 e13 m19 m419 s53 m453 oX oO oK oD o224 o221 o222 oRg gN hxf4 hqd4 x7 pp1 pp2 pp3 pp4 pp5 pp6 P4 hb h0 y4' h3 hp0 hsg hsb hn0 hq0 hD n61 hT p18 lc1 lc3 cp tc34 tcp3 tcN sg4 c4' i18 a104 e m053 y q q3; lia)) (by (clear hp hi hai h053 ha hxf hP hS hM hv hE4 hx8 h01 d1 d2 d3 d4 d5 d6 d7 d8 d9 d10 d11 d12 d13 d14 d15 d16 h1 h2 h4 h5 h6 h7' g2 g3 g4 k1 k2 k3 k4 k5 k6 k7 x1 x2' x3' x4' q1 q2 y1 y2 y3 y4 z1 z2 z3 z4 z5 z6 z7 z8 z9 z10 r6 i6 n75 n104 n102 a75 a90 a102 a53 hP3 p1 p2 p3 p4 p5 p6 hR' f1 e1 xx qq c1 c2 c3 c4 c5 c6 c7 w1 w2 w3 w4 s1 s2 s3 s4 s5 s6 lbt msk t1 t2 t3 e90 e104 e13 m19 m419 s53 m453 oX oO oK oD o224 o221 oRg gN hxf4 hqd4 x7 pp1 pp2 pp3 pp4 pp5 pp6 P4 hb h0 y4' h3 hp0 hsg hsb hn0 hq0 hD n61 hT p18 lc1 lc3 cp tc34 tcp3 tcN sg4 c4' i18 a104 m053 x q q3; lia))]
        exact ⟨q3.1, q3.2, q.1⟩
      · have q := (k3 j x (by (clear hp hi hai h053 ha hxf hP hS hM hv hE4 hx8 h01 d1 d2 d3 d4 d5 d6 d7 d8 d9 d10 d11 d12 d13 d14 d15 d16 h1 h2 h4 h5 h6 h7' g2 g3 g4 k1 k2 k3 k4 k5 k6 k7 x1 x2' x3' x4' q1 q2 q3 y1 y2 y3 y4 z1 z2 z3 z4 z5 z6 z7 z8 z9 z10 r6 i6 n75 n104 n102 a75 a90 a102 a53 hP3 p1 p2 p3 p4 p5 p6 hR' f1 e1 xx qq c1 c2 c3 c4 c5 c6 c7 w1 w2 w3 w4 s1 s2 s3 s4 s5 s6 lbt msk t1 t2 t3 e90 e104 e13 m19 m419 s53 m453 oX oO oK oD o224 o221 oRg gN hxf4 hqd4 x7 pp1 pp2 pp3 pp4 pp5 pp6 P4 hb h0 y4' h3 hp0 hsg hsb hn0 hq0 hD n61 hT p18 lc1 lc3 cp tc34 tcp3 tcN sg4 c4' i18 a104 m053 x; lia))).2.1
        rw [oRg 219 _ (by decide) (by (clear hp hi hai h053 ha hxf hP hS hM hv hE4 hx8 h01 d1 d2 d3 d4 d5 d7 d8 d9 d10 d11 d12 d13 d14 d15 d16 h1 h2 h4 h5 h6 h7' g2 g3 g4 k1 k2 k3 k4 k5 k6 k7 x1 x2' x3' x4' q1 q2 q3 y1 y2 y3 y4 z1 z2 z3 z4 z5 z6 z7 z8 z9 z10 r6 i6 n75 n104 n102 a75 a90 a102 a53 hP3 p1 p2 p3 p4 p5 p6 hR' f1 e1 xx qq c1 c2 c3 c4 c5 c6 c7 w1 w2 w3 w4 s1 s2 s3 s4 s5 s6 lbt msk t1 t2 t3 e90 e104 e13 m19 m419 s53 m453 oX oO oK oD o224 o221 oRg gN hxf4 hqd4 x7 pp1 pp2 pp3 pp4 pp5 pp6 P4 hb h0 y4' h3 hp0 hsg hsb hn0 hq0 hD n61 hT p18 lc1 lc3 cp tc34 tcp3 tcN sg4 c4' i18 a104 m053 y q; lia)) (by (clear hp hi hai h053 ha hxf hP hS hM hv hE4 hx8 h01 d1 d2 d3 d4 d5 d6 d7 d8 d9 d10 d11 d12 d13 d14 d15 d16 h1 h2 h4 h5 h6 h7' g2 g3 g4 k1 k2 k3 k4 k5 k6 k7 x1 x2' x3' x4' q1 q2 q3 y1 y2 y3 y4 z1 z2 z3 z4 z5 z6 z7 z8 z9 z10 r6 i6 n75 n104 n102 a75 a90 a102 a53 hP3 p1 p2 p3 p4 p5 p6 hR' f1 e1 xx qq c1 c2 c3 c4 c5 c6 c7 w1 w2 w3 w4 s1 s2 s3 s4 s5 s6 lbt msk t1 t2 t3 e90 e104 e13 m19 m419 s53 m453 oX oO oK oD o224 o221 oRg gN hxf4 hqd4 x7 pp1 pp2 pp3 pp4 pp5 pp6 P4 hb h0 y4' h3 hp0 hsg hsb hn0 hq0 hD n61 hT p18 lc1 lc3 cp tc34 tcp3 tcN sg4 c4' i18 a104 m053 x q; lia)), q, if_pos (by (clear hp hi hai h053 ha hxf hP hS hM hv hE4 hx8 h01 d1 d2 d3 d4 d5 d6 d7 d8 d9 d10 d11 d12 d13 d14 d15 d16 h1 h2 h4 h5 h6 h7' g2 g3 g4 k1 k2 k3 k4 k5 k6 k7 x1 x2' x3' x4' q1 q2 q3 y1 y2 y3 y4 z1 z2 z3 z4 z5 z6 z7 z8 z9 z10 r6 i6 n75 n104 n102 a75 a90 a102 a53 hP3 p1 p2 p3 p4 p5 p6 hR' f1 e1 xx qq c1 c2 c3 c4 c5 c6 c7 w1 w2 w3 w4 s1 s2 s3 s4 s5 s6 lbt msk t1 t2 t3 e90 e104 e13 m19 m419 s53 m453 oX oO oK oD o224 o221 oRg gN hxf4 hqd4 x7 pp1 pp2 pp3 pp4 pp5 pp6 P4 hb h0 y4' h3 hp0 hsg hsb hn0 hq0 hD n61 hT p18 lc1 lc3 cp tc34 tcp3 tcN sg4 c4' i18 a104 m053 x q; omega))]
    · rw [oRg 219 _ (by decide) (by (clear hp hai h053 ha hxf hP hS hM hv hE4 hx8 h01 d1 d2 d3 d4 d5 d6 d7 d8 d9 d10 d11 d12 d13 d14 d15 d16 h1 h2 h4 h5 h6 h7' g2 g3 g4 k1 k2 k3 k4 k5 k6 k7 x1 x2' x3' x4' q1 q2 q3 y1 y2 y3 y4 z1 z2 z3 z4 z5 z6 z7 z8 z9 z10 r6 i6 n75 n104 n102 a75 a102 a53 hP3 p1 p2 p3 p4 p6 hR' f1 e1 xx qq c1 c2 c3 c4 c5 c6 c7 w1 w2 w3 w4 s1 s2 s3 s4 s5 s6 lbt msk t1 t2 t3 e90 e104 e13 m19 m419 s53 m453 oX oO oK oD o224 o221 oRg gN hxf4 hqd4 x7 pp1 pp2 pp3 pp4 pp5 pp6 P4 hb h0 y4' h3 hp0 hsg hsb hn0 hq0 hD n61 hT p18 lc1 lc3 cp tc34 tcp3 tcN sg4 c4' i18 a104; lia)) (by (clear hp hi hai h053 ha hxf hP hS hM hv hE4 hx8 h01 d1 d2 d3 d4 d5 d6 d7 d8 d9 d10 d11 d12 d13 d14 d15 d16 h1 h2 h4 h5 h6 h7' g1 g2 g3 g4 k1 k2 k3 k4 k5 k6 k7 x1 x2' x3' x4' q1 q2 q3 y1 y2 y3 y4 z1 z2 z3 z4 z5 z6 z7 z8 z9 z10 r6 i6 n90 n75 n104 n102 a75 a90 a102 a53 hP3 p1 p2 p3 p4 p5 p6 hR' f1 e1 xx qq c1 c2 c3 c4 c5 c6 c7 w1 w2 w3 w4 s1 s2 s3 s4 s5 s6 lbt msk t1 t2 t3 e90 e104 e13 m19 m419 s53 m453 oX oO oK oD o224 o221 o222 oRg gN hxf4 hqd4 x7 pp1 pp2 pp3 pp4 pp5 pp6 P4 hb h0 y4' h3 hp0 hsg hsb hn0 hq0 hD n61 hT p18 lc1 lc3 cp tc34 tcp3 tcN sg4 c4' i18 a104; lia))]
      have q := (k3 (i - 1) (by (clear hp hai h053 ha hxf hP hS hM hv hE4 hx8 h01 d1 d2 d3 d4 d5 d6 d7 d8 d9 d10 d11 d12 d13 d14 d15 d16 h1 h2 h4 h5 h6 h7' g2 g3 g4 k1 k2 k3 k4 k5 k6 k7 x1 x2' x3' x4' q1 q2 q3 y1 y2 y3 y4 z1 z2 z3 z4 z5 z6 z7 z8 z9 z10 r6 i6 n75 n104 n102 a75 a90 a102 a53 hP3 p1 p2 p3 p4 p5 p6 hR' f1 e1 xx qq c1 c2 c3 c4 c5 c6 c7 w1 w2 w3 w4 s1 s2 s3 s4 s5 s6 lbt msk t1 t2 t3 e90 e104 e13 m19 m419 s53 m453 oX oO oK oD o224 o221 oRg gN hxf4 hqd4 x7 pp1 pp2 pp3 pp4 pp5 pp6 P4 hb h0 y4' h3 hp0 hsg hsb hn0 hq0 hD n61 hT p18 lc1 lc3 cp tc34 tcp3 tcN sg4 c4' i18 a104; lia)) (by (clear hp hi hai h053 ha hxf hP hS hM hv hE4 hx8 h01 d1 d2 d3 d4 d5 d6 d7 d8 d9 d10 d11 d12 d13 d14 d15 d16 h1 h2 h4 h5 h6 h7' g1 g2 g3 g4 k1 k2 k3 k4 k5 k6 k7 x1 x2' x3' x4' q1 q2 q3 y1 y2 y3 y4 z1 z2 z3 z4 z5 z6 z7 z8 z9 z10 r6 i6 n90 n75 n104 n102 a75 a90 a102 a53 hP3 p1 p2 p3 p4 p5 p6 hR' f1 e1 xx qq c1 c2 c3 c4 c5 c6 c7 w1 w2 w3 w4 s1 s2 s3 s4 s5 s6 lbt msk t1 t2 t3 e90 e104 e13 m19 m419 s53 m453 oX oO oK oD o224 o221 o222 oRg gN hxf4 hqd4 x7 pp1 pp2 pp3 pp4 pp5 pp6 P4 hb h0 y4' h3 hp0 hsg hsb hn0 hq0 hD n61 hT p18 lc1 lc3 cp tc34 tcp3 tcN sg4 c4' i18 a104; lia))).2.1
      rw [if_neg (by (clear hp hi hai h053 ha hxf hP hS hM hv hE4 hx8 h01 d1 d2 d3 d4 d5 d6 d7 d8 d9 d10 d11 d12 d13 d14 d15 d16 h1 h2 h4 h5 h6 h7' g1 g2 g3 g4 k1 k2 k3 k4 k5 k6 k7 x1 x2' x3' x4' q1 q2 q3 y1 y2 y3 y4 z1 z2 z3 z4 z5 z6 z7 z8 z9 z10 r6 i6 n90 n75 n104 n102 a75 a90 a102 a53 hP3 p1 p2 p3 p4 p5 p6 hR' f1 e1 xx qq c1 c2 c3 c4 c5 c6 c7 w1 w2 w3 w4 s1 s2 s3 s4 s5 s6 lbt msk t1 t2 t3 e90 e104 e13 m19 m419 s53 m453 oX oO oK oD o224 o221 o222 oRg gN hxf4 hqd4 x7 pp1 pp2 pp3 pp4 pp5 pp6 P4 hb h0 y4' h3 hp0 hsg hsb hn0 hq0 hD n61 hT p18 lc1 lc3 cp tc34 tcp3 tcN sg4 c4' i18 a104 q; lia))] at q
      rw [show N 6 90 + i - 1 = N 6 90 + (i - 1) by (clear hp hi hai h053 ha hxf hP hS hM hv hE4 hx8 h01 d1 d2 d3 d4 d5 d6 d7 d8 d9 d10 d11 d12 d13 d14 d15 d16 h1 h2 h4 h5 h6 h7' g1 g2 g3 g4 k1 k2 k3 k4 k5 k6 k7 x1 x2' x3' x4' q1 q2 q3 y1 y2 y3 y4 z1 z2 z3 z4 z5 z6 z7 z8 z9 z10 r6 i6 n90 n75 n104 n102 a75 a90 a102 a53 hP3 p1 p2 p3 p4 p5 p6 hR' f1 e1 xx qq c1 c2 c3 c4 c5 c6 c7 w1 w2 w3 w4 s1 s2 s3 s4 s5 s6 lbt msk t1 t2 t3 e90 e104 e13 m19 m419 s53 m453 oX oO oK oD o224 o221 o222 oRg gN hxf4 hqd4 x7 pp1 pp2 pp3 pp4 pp5 pp6 P4 hb h0 y4' h3 hp0 hsg hsb hn0 hq0 hD n61 hT p18 lc1 lc3 cp tc34 tcp3 tcN sg4 c4' i18 a104 q; lia)]; exact q
    · have y21 : M4 1 21 = M3 1 21 := by rw [y1 1 (by decide) (by decide)]
      have y23 : M4 1 23 = M3 1 23 := by rw [y1 1 (by decide) (by decide)]
      have v21 : Mp 1 21 = M 1 21 := hxf.2.1 21 (by decide) (by decide) (by decide) (by decide) (by decide)
      have v23 : Mp 1 23 = M 1 23 := hxf.2.1 23 (by decide) (by decide) (by decide) (by decide) (by decide)
      have key : ∀ (w s : Int), w ≠ 7 → ((∃ k, (N 6 75 ≤ k ∧ k < N3 6 75 + 1) ∧ N4 203 k = w ∧ N4 205 k = s) ↔ (∃ k, (N 6 75 ≤ k ∧ k < N3 6 75) ∧ N3 203 k = w ∧ N3 205 k = s)) := by
        intro w s hw
        constructor
        · rintro ⟨k, ⟨h1, h2⟩, h3, h4⟩
          have kn : k ≠ N3 6 75 := fun e => by rw [e, z7] at h3; exact hw h3.symm
          exact ⟨k, ⟨h1, by (clear hp hi hai h053 ha hxf hP hS hM hv hE4 hx8 h01 d1 d2 d3 d4 d5 d6 d7 d8 d9 d10 d11 d12 d13 d14 d15 d16 h5 h6 h7' g1 g2 g3 g4 k1 k2 k3 k4 k5 k6 k7 x1 x2' x3' x4' q1 q2 q3 y1 y2 y3 y4 z1 z2 z3 z4 z5 z6 z7 z8 z10 r6 i6 n90 n75 n104 n102 a75 a90 a102 a53 hP3 p1 p2 p3 p4 p5 p6 hR' f1 e1 xx qq c1 c2 c3 c4 c5 c6 c7 w1 w2 w3 w4 s1 s2 s3 s4 s5 s6 lbt msk t1 t2 t3 e90 e104 e13 m19 m419 s53 m453 oX oO oK oD o224 o221 o222 oRg gN hxf4 hqd4 x7 pp1 pp2 pp3 pp4 pp5 pp6 P4 hb h0 y4' hp0 hsg hsb hn0 hq0 hD n61 hT p18 lc1 lc3 cp tc34 tcp3 tcN sg4 c4' i18 a104 y21 y23 v21 v23 hw h1 h3 h4; omega)⟩, by rw [← z5 203 k (by decide) kn]; exact h3, by rw [← z5 205 k (by decide) kn]; exact h4⟩
        · rintro ⟨k, ⟨h1, h2⟩, h3, h4⟩
          exact ⟨k, ⟨h1, by (clear hp hi hai h053 ha hxf hP hS hM hv hE4 hx8 h01 d1 d2 d3 d4 d5 d6 d7 d8 d9 d10 d11 d12 d13 d14 d15 d16 h5 h6 h7' g1 g2 g3 g4 k1 k2 k3 k4 k5 k6 k7 x1 x2' x3' x4' q1 q2 q3 y1 y2 y3 y4 z1 z2 z3 z4 z5 z6 z7 z8 z10 r6 i6 n90 n75 n104 n102 a75 a90 a102 a53 hP3 p1 p2 p3 p4 p5 p6 hR' f1 e1 xx qq c1 c2 c3 c4 c5 c6 c7 w1 w2 w3 w4 s1 s2 s3 s4 s5 s6 lbt msk t1 t2 t3 e90 e104 e13 m19 m419 s53 m453 oX oO oK oD o224 o221 o222 oRg gN hxf4 hqd4 x7 pp1 pp2 pp3 pp4 pp5 pp6 P4 hb h0 y4' hp0 hsg hsb hn0 hq0 hD n61 hT p18 lc1 lc3 cp tc34 tcp3 tcN sg4 c4' i18 a104 y21 y23 v21 v23 hw h1 h3 h4; omega)⟩, by rw [z5 203 k (by decide) (by (clear hp hi hai h053 ha hxf hP hS hM hv hE4 hx8 h01 d1 d2 d3 d4 d5 d6 d7 d8 d9 d10 d11 d12 d13 d14 d15 d16 h5 h6 h7' g1 g2 g3 g4 k1 k2 k3 k4 k5 k6 k7 x1 x2' x3' x4' q1 q2 q3 y1 y2 y3 y4 z1 z2 z3 z4 z5 z6 z7 z8 z10 r6 i6 n90 n75 n104 n102 a75 a90 a102 a53 hP3 p1 p2 p3 p4 p5 p6 hR' f1 e1 xx qq c1 c2 c3 c4 c5 c6 c7 w1 w2 w3 w4 s1 s2 s3 s4 s5 s6 lbt msk t1 t2 t3 e90 e104 e13 m19 m419 s53 m453 oX oO oK oD o224 o221 o222 oRg gN hxf4 hqd4 x7 pp1 pp2 pp3 pp4 pp5 pp6 P4 hb h0 y4' hp0 hsg hsb hn0 hq0 hD n61 hT p18 lc1 lc3 cp tc34 tcp3 tcN sg4 c4' i18 a104 y21 y23 v21 v23 hw h1 h3 h4; lia))]; exact h3, by rw [z5 205 k (by decide) (by omega)]; exact h4⟩
      refine ⟨fun q x y => ?_, fun q x y => ?_⟩
      · rw [y21, hsb.1 q x y, v21, key 2 q (by decide)]
      · rw [y23, hsb.2 q x y, v23, key 5 q (by decide)]
end DN
end T146_dn
section T147_lk
/-! labels of a part and of its parts; small steps of a decide -/
def LKP (b : Int) (Mx M1 : mm_) : Prop := M1 1 18 = Mx 1 18 ∧ lc_ b Mx ≤ lc_ b M1 ∧ (∀ i, i < 10 * Mx 1 18 + lc_ b Mx → M1 62 i = Mx 62 i) ∧ (b = 1 → LMT M1 = LMT Mx)
section LK
variable {d dq m : Nat} {b F F' : Int} {Mx Mq M1 N1 M2 M N : mm_} {a a1 o o1 me : Int} {lm : Int → Int → Bool} {K : Int → mm_ → Prop} {Kv G : mm_ → Prop} {Qt : qt_} {V : vv_}
theorem LKP_rf [Inhabited gh_] : LKP b M M := ⟨rfl, Int.le_refl _, fun _ _ => rfl, fun _ => rfl⟩
theorem LKP_tr [Inhabited gh_] (h1 : LKP b Mx M1) (h2 : LKP b M1 M2) : LKP b Mx M2 := ⟨h2.1.trans h1.1, Int.le_trans h1.2.1 h2.2.1, fun i hi => (h2.2.2.1 i (by rw [h1.1]; have := h1.2.1; omega)).trans (h1.2.2.1 i hi), fun hb => (h2.2.2.2 hb).trans (h1.2.2.2 hb)⟩
theorem LMT_c [Inhabited gh_] (h62 : M1 62 = Mx 62) (h128 : M1 128 = Mx 128) (h18 : M1 1 18 = Mx 1 18) : LMT M1 = LMT Mx := by
  unfold LMT; rw [h62, h128, h18]
theorem LKP_P [Inhabited gh_] (h : PRC b F F' Mx Mq M1 N1 a a1 o o1 me) : LKP b Mx M1 := by
  have h18 : M1 1 18 = Mx 1 18 := h.2.2.1.1.2.1 18 (by decide)
  refine ⟨h18, h.2.2.2.2.2.2.2.1, fun i hi => ?_, fun hb => ?_⟩
  · exact (h.2.2.2.1.2.2.2.2 i (.inl hi)).1.1
  · have := h.2.2.2.2.2.2.2.2.2 hb
    exact LMT_c this.1 this.2.1 h18
theorem LKP_X [Inhabited gh_] (h62 : M1 62 = Mx 62) (h128 : M1 128 = Mx 128) (h18 : M1 1 18 = Mx 1 18) (h19 : M1 1 19 = Mx 1 19) : LKP b Mx M1 ∧ lc_ b M1 = lc_ b Mx := by
  have e : lc_ b M1 = lc_ b Mx := by unfold lc_; rw [h128, h18, h19]
  exact ⟨⟨h18, by (clear h62 h128 h18 h19; omega), fun i _ => by rw [h62], fun _ => LMT_c h62 h128 h18⟩, e⟩
theorem LKP_F [Inhabited gh_] (h : XF Mx M1) : LKP b Mx M1 ∧ lc_ b M1 = lc_ b Mx := LKP_X (XF_70 h (by decide) (by decide) (by decide)) (XF_70 h (by decide) (by decide) (by decide)) (h.2.1 18 (by decide) (by decide) (by decide) (by decide) (by decide)) (h.2.1 19 (by decide) (by decide) (by decide) (by decide) (by decide))
theorem LOK_s [Inhabited gh_] (h1 : LKP b Mx M1) (h2 : LKP b M1 M2) (h : LOK b lm Mx M2) : LOK b lm Mx M1 ∧ LOK b lm M1 M2 := by
  refine ⟨⟨fun hb j x y => ?_, h.2⟩, ⟨fun hb j x y => ?_, fun hb => ?_⟩⟩
  · have := h.1 hb j x (by have := h2.2.1; omega)
    rw [h2.2.2.1 _ (by rw [h1.1]; (clear h1 h2 h hb x this; lia))] at this
    exact this
  · rw [h1.1]
    exact h.1 hb j (by have := h1.2.1; (clear h1 h2 h hb y; omega)) y
  · rw [h.2 hb, h1.2.2.2 hb]
/-- X: a place kept -/
theorem x_162 [Inhabited gh_] (h2 : M 1 2 = 5) (h0 : 0 ≤ M 5 3) (h1 : M 5 3 < 12000) (h : K (M 5 3) (pX_ M 0)) : Tr_ wd0 pg0 (d + 3) 162 [.inr (.inr 1)] M (ri_ K) Qt := t_162 fun V hV hW => b_162_0 (Tr_mono _) hV hW M ⟨h2, x_138 h2 h0 h1 (ri_i h)⟩
theorem x_166 [Inhabited gh_] {x : Int} (h8 : bl_ (M 1 8)) (h2 : M 1 2 = 5) (h0 : M 1 8 ≠ 0 → 0 ≤ x ∧ x < 12000) (h : Kv (if M 1 8 = 0 then M else up_ M 142 x (M 5 3))) : Tr_ wd0 pg0 (d + 1) 166 [.inr (.inr 1), .inl x] M (rv_ Kv) Qt := t_166 fun V hV hW => b_166_0 (Tr_mono _) hV hW x M (fun _ => by
  by_cases c : M 1 8 = 0
  · rw [if_pos c]; rw [if_pos c] at h; exact rv_i h
  · rw [if_neg c]; rw [if_neg c] at h; exact ⟨h2, h2, h0 c, rv_i h⟩)
/-- the two kept places of a branch -/
def M0_ (b : Int) (M : mm_) : mm_ := if b = 0 then M else pX_ (up_ (pX_ M 0) 142 (M 5 3) 43) 0
theorem M0_r [Inhabited gh_] {r : Nat} (h5 : r ≠ 5) (h1 : r ≠ 142) : M0_ b M r = M r := by
  unfold M0_; split
  · rfl
  · rw [pX_r h5 h1, up_ne h1, pX_r h5 h1]
theorem M0_5 [Inhabited gh_] {i : Int} (h : i ≠ 3) : M0_ b M 5 i = M 5 i := by
  unfold M0_; split
  · rfl
  · rw [pX_5 h, up_ne (by decide), pX_5 h]
theorem M0_XF [Inhabited gh_] : XF M (M0_ b M) := ⟨fun r h => M0_r (fun e => h (by rw [e]; decide)) (fun e => h (by rw [e]; decide)), fun i _ _ _ _ _ => by rw [M0_r (by decide) (by decide)], fun i h => M0_5 h⟩
theorem pX_v [Inhabited gh_] (h8 : M 1 8 = 1) {v : Int} : pX_ M v = up_ (up_ M 142 (M 5 3) v) 5 3 (M 5 3 + 1) := by unfold pX_; rw [if_neg (by omega)]
theorem M0_b [Inhabited gh_] (hb : b = 1) (h8 : M 1 8 = b) : M0_ b M 5 3 = M 5 3 + 2 ∧ M0_ b M 142 (M 5 3) = 43 ∧ ∀ j, j < M 5 3 → M0_ b M 142 j = M 142 j := by
  have e : M0_ b M = pX_ (up_ (pX_ M 0) 142 (M 5 3) 43) 0 := by unfold M0_; rw [if_neg (by omega)]
  have h9 : up_ (pX_ M 0) 142 (M 5 3) 43 1 8 = 1 := by rw [up_ne (by decide), pX_1]; (clear e; lia)
  have h53 : up_ (pX_ M 0) 142 (M 5 3) 43 5 3 = M 5 3 + 1 := by rw [up_ne (by decide), pX_v (by omega), up_at]
  rw [e, pX_v h9, h53]
  refine ⟨by rw [up_at]; (clear hb h8 e h9 h53; lia), ?_, fun j hj => ?_⟩
  · rw [up_ne (by decide), up_of2 (by omega), up_at]
  · rw [up_ne (by decide), up_of2 (by (clear hb h8 e h9 h53; omega)), up_of2 (by (clear hb h8 e h9 h53; omega)), pX_v (by (clear e h9 h53 hj; lia)), up_ne (by decide), up_of2 (by omega)]
theorem M0_53 [Inhabited gh_] (h01 : b = 0 ∨ b = 1) (h8 : M 1 8 = b) : M0_ b M 5 3 = M 5 3 + (if b = 0 then 0 else 2) := by
  rcases h01 with hb | hb
  · unfold M0_; rw [if_pos hb, if_pos hb]; omega
  · rw [(M0_b hb h8).1, if_neg (by omega)]
end LK
end T147_lk
section T148_db
/-! a decide: Q behind a part -/
/-- Q stopped, from a point T on -/
def STT [Inhabited gh_] (dq : Nat) (T : vv_ → Prop) (Mq Mx' : mm_) : Prop := ∀ (V : vv_) (Kv : mm_ → Prop) (Qt : qt_), Cl_ wd0 (Tr_ wd0 pg0 (dq + 15)) V (rv_ Kv) Qt m_260 → Wk_ V → (∀ M', SQ Mx' Mq M' → Kv M') → T V
/-- Q from a point T on back at the head of its loop -/
def RTq (dq : Nat) (st mk me : Int) (T : vv_ → Prop) (c : Int) (N : mm_) : Prop := ∀ (V : vv_) (Kv : mm_ → Prop) (Qt : qt_), Cl_ wd0 (Tr_ wd0 pg0 (dq + 15)) V (rv_ Kv) Qt m_260 → Wk_ V → V 77 (LSz st mk me c) [] N → T V
def QPR (dq : Nat) (st mk me : Int) (T : vv_ → Prop) (N : mm_) : Prop := ∀ (V : vv_) (Kv : mm_ → Prop) (Qt : qt_), Cl_ wd0 (Tr_ wd0 pg0 (dq + 15)) V (rv_ Kv) Qt m_260 → Wk_ V → Tr_ wd0 pg0 (dq + 13) 291 [.inr (.inr 6)] N (rv_ fun M1 => V 77 (LSz st mk me 0) [] (up_ M1 6 103 0) ∧ (N 6 103 = 0 → V 77 (LSz st mk me 0) [] M1)) Qt → T V
def N4_ (N : mm_) (dd x : Int) : mm_ := up_ (up_ (up_ (em_ (up_ N 226 dd x) 7 (N 150 (N 6 12))) 206 (N 6 75) (N 224 dd)) 224 dd (N 6 75)) 6 103 0
section DB
variable {d dq m : Nat} {b F F' : Int} {Mx Mq M N : mm_} {a a1 o o1 st mk me c dd x v : Int} {K : Int → mm_ → Prop} {Kv G : mm_ → Prop} {Qt : qt_} {V : vv_} {T : vv_ → Prop}
theorem an_01 [Inhabited gh_] (hx : x = 0 ∨ x = 1) (hv : v = 0 ∨ v = 1) : an_ x v = if x = 0 ∨ v = 0 then 0 else 1 := by
  rcases hx with e | e <;> rcases hv with e' | e' <;> rw [e, e'] <;> decide
theorem N4_BQ [Inhabited gh_] : BQ4 N (N4_ N dd x) dd x := by
  have e6 : ∀ i : Int, i ≠ 75 → i ≠ 103 → N4_ N dd x 6 i = N 6 i := fun i h1 h2 => by unfold N4_; rw [up_off h2, up_ne (by decide), up_ne (by decide), em_6 h1, up_ne (by decide)]
  have u75 : up_ N 226 dd x 6 75 = N 6 75 := by rw [up_ne (by decide)]
  refine ⟨fun r hr => ?_, e6, ?_, ?_, fun r i hr hi => ?_, fun r i hr hi => ?_, ?_, ?_, ?_, ?_⟩
  · simp only [List.mem_cons, List.not_mem_nil, or_false, not_or] at hr
    obtain ⟨h6, h3, h4, h5, h66, h7, h8, h10, h224, h226⟩ := hr
    unfold N4_
    rw [up_ne h6, up_ne h224, up_ne h66]
    by_cases c : r = 209
    · rw [c, em_209, up_ne (by decide)]
    · rw [em_r (by (clear e6 u75 h6; lia)) h6, up_ne h226]
  · unfold N4_; rw [up_off (by decide), up_ne (by decide), up_ne (by decide), em_75, u75]
  · unfold N4_; rw [up_at]
  · have h6 : r ≠ 6 := fun e => absurd hr (by rw [e]; decide)
    have h224 : r ≠ 224 := fun e => absurd hr (by rw [e]; decide)
    have h226 : r ≠ 226 := fun e => absurd hr (by rw [e]; decide)
    unfold N4_
    rw [up_ne h6, up_ne h224, up_of2 hi, em_o h6 (by rw [u75]; exact hi), up_ne h226]
  · have h6 : r ≠ 6 := fun e => absurd hr (by rw [e]; decide)
    have h206 : r ≠ 206 := fun e => absurd hr (by rw [e]; decide)
    have hb : r < 203 ∨ 210 < r := by unfold dsR at hr; simp only [List.mem_cons, List.not_mem_nil, or_false] at hr; (clear e6 u75 hi h6 h206; omega)
    unfold N4_
    rw [up_ne h6, up_of2 hi, up_ne h206, em_r hb h6, up_of2 hi]
  · unfold N4_; rw [up_ne (by decide), up_ne (by decide), up_ne (by decide), ← u75, em_203]
  · unfold N4_; rw [up_ne (by decide), up_ne (by decide), up_at]
  · unfold N4_; rw [up_ne (by decide), up_at]
  · unfold N4_; rw [up_ne (by decide), up_ne (by decide), up_ne (by decide), em_r (by decide) (by decide), up_at]
theorem q_303a [Inhabited gh_] {x5 : Int} (h102 : N 6 102 = dd + 1) (hdd : 0 ≤ dd ∧ dd < 14) (h226 : N 226 dd = x5) (hx5 : x5 = 0 ∨ x5 = 1) (h103 : N 6 103 = v) (hv : v = 0 ∨ v = 1) (h75 : 0 ≤ N 6 75 ∧ N 6 75 < 1300) (h12 : 0 ≤ N 6 12 ∧ N 6 12 < 1202)
    (h : ∀ V' : vv_, Cl_ wd0 (Tr_ wd0 pg0 (d + 2)) V' (rv_ Kv) Qt m_303 → Wk_ V' → (if N 225 dd = 0 then Tr_ wd0 pg0 (d + 2) 292 [.inr (.inr 6)] (N4_ N dd (if x5 = 0 ∨ v = 0 then 0 else 1)) (ri_ fun v2 M2 => if v2 = 0 then V' 83 [rr 6, ii dd, ii (N 6 75), none] [] M2 else Tr_ wd0 pg0 (d + 2) 291 [.inr (.inr 6)] M2 (rv_ fun M3 => rv_ Kv [] M3) Qt) Qt
      else V' 83 [rr 6, ii dd, ii (N 6 75), none] [] (N4_ N dd (if x5 = 0 ∨ v = 0 then 0 else 1)))) : Tr_ wd0 pg0 (d + 3) 303 [.inr (.inr 6)] N (rv_ Kv) Qt := by
  refine t_303 fun V hV hW => b_303_0 (Tr_mono _) hV hW N ?_
  rw [h102, show dd + 1 - 1 = dd by omega, w32_id (by omega) (by omega), h226, h103, an_01 hx5 hv]
  have hl : bl_ (if x5 = 0 ∨ v = 0 then 0 else 1) := by unfold bl_; split <;> omega
  have hz := h V hV hW
  generalize (if x5 = 0 ∨ v = 0 then (0 : Int) else 1) = y at *
  refine ⟨hdd, fun _ _ => ⟨⟨hdd, hl⟩, h12, ?_⟩⟩
  have u75 : up_ N 226 dd y 6 75 = N 6 75 := by rw [up_ne (by decide)]
  refine q_266 (by rw [u75]; exact h75.1) (by rw [u75]; exact h75.2) ?_
  rw [u75]
  have m225 : em_ (up_ N 226 dd y) 7 (N 150 (N 6 12)) 225 dd = N 225 dd := by rw [em_r (by decide) (by decide), up_ne (by decide)]
  have m224 : em_ (up_ N 226 dd y) 7 (N 150 (N 6 12)) 224 dd = N 224 dd := by rw [em_r (by decide) (by decide), up_ne (by decide)]
  rw [m225, m224]
  exact ⟨hdd, h75, hdd, .inl rfl, hdd, fun _ => hz⟩
end DB
end T148_db
section T149_dx
/-! a decide: X's small walks -/
def Mp_ (b : Int) (M : mm_) (c1 i : Int) : mm_ := if b = 0 then M else pX_ (up_ M 142 c1 i) 0
def M4_ (b : Int) (M : mm_) (sk x4 : Int) : mm_ := if b = 0 then M else up_ (up_ (pX_ (pX_ M 38) 0) 142 (M 5 3 + 1) x4) 142 sk (M 5 3 + 2)
/-- X where a decide ends -/
def XEND (m : Nat) (V : vv_) (Qt : qt_) (x1 x2 x3 x5 x7 x8 x9 x10 x11 x12 : Int) (M2 : mm_) : Prop :=
    Tr_ wd0 pg0 (9 * m + 24) 138 [.inr (.inr 1), .inl 44] M2 (rv_ fun M3 =>
     Tr_ wd0 pg0 (9 * m + 24) 103 [.inr (.inr 1), .inl 19] M3 (ri_ fun v2 M4 =>
      (if v2 = 0 then
       Tr_ wd0 pg0 (9 * m + 24) 108 [.inr (.inr 1), .inl 20] M4 (rv_ fun M5 =>
        V 321 [rr 1, ii x1, ii x2, ii x3, ii x12, ii x5, ii v2, ii x7, ii x8, ii x9, ii x10, ii x11, ii x12] [] (up_ M5 1 6 (w32 ((M5 1 6) - 1)))) Qt
      else
       Tr_ wd0 pg0 (9 * m + 24) 105 [.inr (.inr 1)] M4 (rv_ fun M6 =>
        Tr_ wd0 pg0 (9 * m + 24) 121 [.inr (.inr 1), .inl 58] M6 (rv_ fun M7 =>
         Tr_ wd0 pg0 (9 * m + 24) 133 [.inr (.inr 1)] M7 (ri_ fun v3 M8 =>
          (if v3 = 0 then
           Tr_ wd0 pg0 (9 * m + 24) 108 [.inr (.inr 1), .inl 20] M8 (rv_ fun M9 =>
            V 321 [rr 1, ii x1, ii x2, ii x3, ii x12, ii 0, ii v2, ii x7, ii x8, ii x9, ii x10, ii x11, ii x12] [] (up_ M9 1 6 (w32 ((M9 1 6) - 1)))) Qt
          else
           (if x5 = 0 then
            Tr_ wd0 pg0 (9 * m + 24) 108 [.inr (.inr 1), .inl 20] M8 (rv_ fun M10 =>
             V 321 [rr 1, ii x1, ii x2, ii x3, ii x12, ii 0, ii v2, ii x7, ii x8, ii x9, ii x10, ii x11, ii x12] [] (up_ M10 1 6 (w32 ((M10 1 6) - 1)))) Qt
           else
            Tr_ wd0 pg0 (9 * m + 24) 108 [.inr (.inr 1), .inl 20] M8 (rv_ fun M11 =>
             V 321 [rr 1, ii x1, ii x2, ii x3, ii x12, ii 1, ii v2, ii x7, ii x8, ii x9, ii x10, ii x11, ii x12] [] (up_ M11 1 6 (w32 ((M11 1 6) - 1)))) Qt))) Qt) Qt) Qt)) Qt) Qt
section DX
variable {d dq m : Nat} {b F F' : Int} {Mx Mq M N : mm_} {a o x1 x2 x3 x4 x5 x6 x7 x8 x9 x10 x11 x12 : Int} {K : Int → mm_ → Prop} {Kv G : mm_ → Prop} {Qt : qt_} {V : vv_}
theorem Tr_rc [Inhabited gh_] {n : Nat} {args : List pv_} {Kv' : mm_ → Prop} (h : Tr_ wd0 pg0 d n args M (rv_ Kv) Qt) (hr : ∀ M, Kv M → Kv' M) : Tr_ wd0 pg0 d n args M (rv_ Kv') Qt := Tr_m h (fun vs M hv => ⟨hv.1, hr M hv.2⟩) (fun _ _ h => h)
theorem Tr_ric [Inhabited gh_] {n : Nat} {args : List pv_} {K' : Int → mm_ → Prop} (h : Tr_ wd0 pg0 d n args M (ri_ K) Qt) (hr : ∀ v M, K v M → K' v M) : Tr_ wd0 pg0 d n args M (ri_ K') Qt := Tr_m h (fun vs M ⟨x, e, hv⟩ => ⟨x, e, hr x M hv⟩) (fun _ _ h => h)
theorem x_161_50 [Inhabited gh_] (hV : Cl_ wd0 (Tr_ wd0 pg0 (d + 3)) V (ri_ K) Qt m_161) (hW : Wk_ V) (h8 : M 1 8 = b) (h01 : b = 0 ∨ b = 1) (h2 : M 1 2 = 5) (h0 : 0 ≤ M 5 3) (h1 : M 5 3 + 2 < 12000) (h : V 87 [rr 1, ii x1, ii x2, ii x3, ii x4, ii x5, ii 0, ii (M 5 3), ii (if b = 0 then M 5 3 else M 5 3 + 1), ii 1, none, none, none] [] (M0_ b M)) : V 50 [rr 1, ii x1, ii x2, ii x3, ii x4, ii x5, none, none, none, none, none, none, none] [] M := by
  refine b_161_50 (Tr_mono _) hV hW _ _ _ _ _ _ (x_162 h2 h0 (by (clear hV hW h8 h01 h2 h; omega)) fun _ => ?_)
  unfold M0_ at h
  rw [pX_1]
  rcases h01 with hb | hb
  · rw [if_pos hb, if_pos hb] at h
    rw [if_pos (by omega), pX_0 (by omega)]
    refine x_162 h2 h0 (by omega) ?_
    rw [pX_0 (by omega)]; exact h
  · rw [if_neg (by omega), if_neg (by omega)] at h
    rw [if_neg (by (clear hV hW h2 h0 h1 h; lia))]
    have e53 : up_ (pX_ M 0) 142 (M 5 3) 43 5 3 = M 5 3 + 1 := by rw [up_ne (by decide), pX_v (by (clear hV hW h2 h0 h1 h; lia)), up_at]
    refine ⟨h2, by omega, x_162 (by rw [up_ne (by decide), pX_1]; exact h2) (by omega) (by omega) ?_⟩
    rw [e53]; exact h
theorem x_161_87 [Inhabited gh_] (hV : Cl_ wd0 (Tr_ wd0 pg0 (d + 3)) V (ri_ K) Qt m_161) (hW : Wk_ V) (h8 : M 1 8 = b) (h01 : b = 0 ∨ b = 1) (h2 : M 1 2 = 5) (h0 : 0 ≤ M 5 3) (h1 : M 5 3 < 12000) (hc : b = 1 → 0 ≤ x8 ∧ x8 < 12000)
    (h : Tr_ wd0 pg0 (d + 3) 121 [.inr (.inr 1), .inl 58] (Mp_ b M x8 x6) (rv_ fun M2 =>
      Tr_ wd0 pg0 (d + 3) 133 [.inr (.inr 1)] M2 (ri_ fun v2 M3 => V 209 [rr 1, ii x1, ii x2, ii x3, ii x4, ii (if x5 = 0 ∨ v2 = 0 then 0 else 1), ii x6, ii x7, ii x8, ii 0, ii (M 5 3), ii v2, none] [] M3) Qt) Qt) : V 87 [rr 1, ii x1, ii x2, ii x3, ii x4, ii x5, ii x6, ii x7, ii x8, ii 0, none, none, none] [] M := by
  have tail : ∀ M1 : mm_, M1 1 2 = 5 → M1 5 3 = M 5 3 → pX_ M1 0 = Mp_ b M x8 x6 → V 174 [rr 1, ii x1, ii x2, ii x3, ii x4, ii x5, ii x6, ii x7, ii x8, ii 0, none, none, none] [] M1 := fun M1 e2 e53 ep => by
    refine b_161_174 (Tr_mono _) hV hW _ _ _ _ _ _ _ _ _ _ (x_162 e2 (by (clear hV hW h8 h01 h2 hc h e2 ep; lia)) (by (clear hV hW h8 h01 h2 hc h e2 ep; omega)) ?_)
    rw [ep, e53]
    refine Tr_rc h (fun M2 h2 => ?_)
    refine Tr_ric h2 (fun v2 M3 h3 => ?_)
    by_cases c : x5 = 0
    · rw [if_pos c]; rw [if_pos (.inl c)] at h3; exact h3
    · rw [if_neg c]
      by_cases c2 : v2 = 0
      · rw [if_pos c2]; rw [if_pos (.inr c2)] at h3; exact h3
      · rw [if_neg c2]; rw [if_neg (by (clear hV hW h8 h01 h0 h1 hc h e2 e53 ep h2 h3; lia))] at h3; exact h3
  refine b_161_87 (Tr_mono _) hV hW _ _ _ _ _ _ _ _ _ _ ?_
  rw [if_pos rfl]
  intro _
  rcases h01 with hb | hb
  · rw [if_pos (by omega)]
    exact tail M h2 rfl (by unfold Mp_; rw [if_pos hb, pX_0 (by omega)])
  · rw [if_neg (by omega)]
    exact ⟨h2, hc hb, tail _ (by rw [up_ne (by decide)]; exact h2) (by rw [up_ne (by decide)]) (by unfold Mp_; rw [if_neg (by omega)])⟩
theorem x_161_209 [Inhabited gh_] (hV : Cl_ wd0 (Tr_ wd0 pg0 (9 * m + 24)) V (ri_ K) Qt m_161) (hW : Wk_ V) (h8 : M 1 8 = b) (h01 : b = 0 ∨ b = 1) (h2 : M 1 2 = 5) (h0 : 0 ≤ M 5 3) (h1 : M 5 3 + 2 < 12000) (hc : b = 1 → 0 ≤ x10 ∧ x10 < M 5 3) (hE : ER b F (M4_ b M x10 x4) N a o)
    (h : (isR (M 70) a → V 50 [rr 1, ii x1, ii x2, ii x3, ii (if b = 0 then M 5 3 else M 5 3 + 1), ii x5, none, none, none, none, none, none, none] [] (M4_ b M x10 x4)) ∧ (¬ isR (M 70) a → XEND m V Qt x1 x2 x3 x5 x7 x8 x9 x10 x11 (if b = 0 then M 5 3 else M 5 3 + 1) (M4_ b M x10 x4))) : V 209 [rr 1, ii x1, ii x2, ii x3, ii x4, ii x5, ii x6, ii x7, ii x8, ii x9, ii x10, ii x11, none] [] M := by
  have m70 : M4_ b M x10 x4 70 = M 70 := by
    unfold M4_; split
    · rfl
    · rw [up_ne (by decide), up_ne (by decide), pX_r (by decide) (by decide), pX_r (by decide) (by decide)]
  have fin : Tr_ wd0 pg0 (9 * m + 24) 163 [.inr (.inr 1)] (M4_ b M x10 x4) (ri_ fun v1 M2 => (if v1 = 0 then XEND m V Qt x1 x2 x3 x5 x7 x8 x9 x10 x11 (if b = 0 then M 5 3 else M 5 3 + 1) M2 else V 50 [rr 1, ii x1, ii x2, ii x3, ii (if b = 0 then M 5 3 else M 5 3 + 1), ii x5, none, none, none, none, none, none, none] [] M2)) Qt := by
    refine y_163 hE (fun c => ?_) (fun c => ?_)
    · rw [if_neg (by decide)]; rw [m70] at c; exact h.1 c
    · rw [if_pos rfl]; rw [m70] at c; exact h.2 c
  refine b_161_209 (Tr_mono _) hV hW _ _ _ _ _ _ _ _ _ _ _ _ (x_138 h2 h0 (by omega) ?_)
  rcases h01 with hb | hb
  · have e4 : M4_ b M x10 x4 = M := by unfold M4_; rw [if_pos hb]
    rw [e4, if_pos hb] at fin
    rw [pX_0 (by omega)]
    refine x_162 h2 h0 (by omega) fun _ => ?_
    rw [pX_0 (by omega), if_pos (by omega)]
    refine b_161_240 (Tr_mono _) hV hW _ _ _ _ _ _ _ _ _ _ _ _ _ (x_166 (.inl (by omega)) h2 (fun h => absurd (by omega) h) ?_)
    rw [if_pos (by omega)]
    exact fin
  · have g8 : pX_ M 38 1 8 = 1 := by rw [pX_1]; omega
    have g53 : pX_ M 38 5 3 = M 5 3 + 1 := by rw [pX_v (by omega), up_at]
    have k8 : pX_ (pX_ M 38) 0 1 8 = 1 := by rw [pX_1]; exact g8
    have k53 : pX_ (pX_ M 38) 0 5 3 = M 5 3 + 2 := by rw [pX_v g8, up_at, g53]; (clear hV hW h8 h2 h0 h1 hc hE h m70 fin hb g8 g53 k8; lia)
    have e4 : M4_ b M x10 x4 = up_ (up_ (pX_ (pX_ M 38) 0) 142 (M 5 3 + 1) x4) 142 x10 (M 5 3 + 2) := by unfold M4_; rw [if_neg (by omega)]
    rw [e4, if_neg (by omega)] at fin
    refine x_162 (by rw [pX_1]; exact h2) (by (clear hV hW h8 h2 hc hE h m70 fin hb g8 k8 e4; omega)) (by (clear hV hW h8 h2 hc hE h m70 fin hb g8 k8 e4; omega)) fun _ => ?_
    rw [if_neg (by (clear hV hW h8 h2 h0 h1 hc hE h m70 fin hb g8 g53 k53 e4; lia)), g53]
    refine ⟨by rw [pX_1, pX_1]; exact h2, by (clear hV hW h8 h2 hc hE h m70 fin hb g8 k8 e4; lia), ?_⟩
    have j8 : up_ (pX_ (pX_ M 38) 0) 142 (M 5 3 + 1) x4 1 8 = 1 := by rw [up_ne (by decide)]; exact k8
    have j53 : up_ (pX_ (pX_ M 38) 0) 142 (M 5 3 + 1) x4 5 3 = M 5 3 + 2 := by rw [up_ne (by decide)]; exact k53
    refine b_161_240 (Tr_mono _) hV hW _ _ _ _ _ _ _ _ _ _ _ _ _ (x_166 (.inr j8) (by rw [up_ne (by decide), pX_1, pX_1]; exact h2) (fun _ => by have := hc hb; (clear hV hW h8 h2 hc hE h m70 fin hb g8 k8 e4 j8; lia)) ?_)
    rw [if_neg (by omega), j53]
    exact fin
theorem M4_BX [Inhabited gh_] (h8 : M 1 8 = b) (h01 : b = 0 ∨ b = 1) (hc : b = 1 → x10 < M 5 3) : BX4 b M (M4_ b M x10 x4) x10 x4 := by
  rcases h01 with hb | hb
  · have e4 : M4_ b M x10 x4 = M := by unfold M4_; rw [if_pos hb]
    rw [e4]
    exact ⟨fun _ _ _ => rfl, fun _ => rfl, fun _ _ => rfl, fun h => by omega⟩
  · have hc' := hc hb
    have g8 : pX_ M 38 1 8 = 1 := by rw [pX_1]; (clear hc hc'; omega)
    have g53 : pX_ M 38 5 3 = M 5 3 + 1 := by rw [pX_v (by omega), up_at]
    have e4 : M4_ b M x10 x4 = up_ (up_ (pX_ (pX_ M 38) 0) 142 (M 5 3 + 1) x4) 142 x10 (M 5 3 + 2) := by unfold M4_; rw [if_neg (by omega)]
    rw [e4]
    refine ⟨fun r h5 h1 => ?_, fun h => by omega, fun i hi => ?_, fun _ => ⟨?_, ?_, ?_, ?_, fun j hj hl => ?_⟩⟩
    · rw [up_ne h1, up_ne h1, pX_r h5 h1, pX_r h5 h1]
    · rw [up_ne (by decide), up_ne (by decide), pX_5 hi, pX_5 hi]
    · rw [up_ne (by decide), up_ne (by decide), pX_v g8, up_at, g53]; omega
    · rw [up_of2 (by (clear h8 hc hb g8 e4; lia)), up_of2 (by omega), pX_v g8, up_ne (by decide), g53, up_of2 (by omega), pX_v (by omega), up_ne (by decide), up_at]
    · rw [up_of2 (by (clear h8 hc hb g8 e4; omega)), up_at]
    · rw [up_at]
    · rw [up_of2 hj, up_of2 (by omega), pX_v g8, up_ne (by decide), g53, up_of2 (by omega), pX_v (by (clear hc hc' g8 g53 e4 hj hl; omega)), up_ne (by decide), up_of2 (by omega)]
theorem M4_E [Inhabited gh_] (hE : ER b F M N a o) (hs : M 5 3 + 2 ≤ 9 * a + 1000) (hc : b = 1 → x10 < M 5 3) : ER b F (M4_ b M x10 x4) N a o := by
  have B := M4_BX (x4 := x4) hE.2.2.2.2.2.2.1 (bl01 hE) hc
  have e1 : M4_ b M x10 x4 1 = M 1 := B.1 1 (by decide) (by decide)
  have e70 : M4_ b M x10 x4 70 = M 70 := B.1 70 (by decide) (by decide)
  have s53 : M 5 3 ≤ M4_ b M x10 x4 5 3 ∧ M4_ b M x10 x4 5 3 ≤ M 5 3 + 2 := by
    rcases bl01 hE with hb | hb
    · rw [B.2.1 hb]; omega
    · rw [(B.2.2.2 hb).1]; omega
  obtain ⟨e1', e2, e3, e4, e5, e6, e7, e8, e9, e10, e11, e12, e13, e14, e15⟩ := hE
  exact ⟨gd_c e70 e1', by rw [e1]; exact e2, e3, by rw [e1]; exact e4, e5, e6, by rw [e1]; exact e7, e8, e9, e10, by unfold NR; rw [e1]; exact e11, by rw [e1]; exact e12, by rw [e1]; exact e13, by omega, by (clear hc B e1 e70 e1' e4 e5 e6 e7 e8 e9 e10 e11 e12 e13 e14 e15; lia)⟩
end DX
end T149_dx
