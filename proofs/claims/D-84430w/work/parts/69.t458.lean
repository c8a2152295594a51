section T458_t0
/-! the relation behind the constructors -/
def M0v (r : Nat) (i : Int) : Int := if (r = 0 ∧ i = 71) ∨ (r = 6 ∧ i = 119) then -1 else 0
section T0a
variable {M : mm_}
theorem TOP_0 [Inhabited fz_] (h : ∀ r : Nat, r < 267 → r ≠ 148 → ∀ i : Int, M r i = M0v r i) (hw : Wd_ M) (hr : RO_ M) : TOP 0 M M := by
  have z : ∀ r : Nat, r < 267 → r ≠ 148 → r ≠ 0 → r ≠ 6 → ∀ i : Int, M r i = 0 := fun r a b c d i => by rw [h r a b i]; unfold M0v; rw [if_neg (by omega)]
  have z0 : ∀ i : Int, i ≠ 71 → M 0 i = 0 := fun i hi => by rw [h 0 (by decide) (by decide) i]; unfold M0v; rw [if_neg (by omega)]
  have z6 : ∀ i : Int, i ≠ 119 → M 6 i = 0 := fun i hi => by rw [h 6 (by decide) (by decide) i]; unfold M0v; rw [if_neg (by omega)]
  have by_ : ∀ r : Nat, r < 267 → r ≠ 148 → r ≠ 0 → r ≠ 6 → BY M r := fun r a b c d i _ _ => by rw [z r a b c d]; decide
  have e1 : M 0 71 = -1 := by rw [h 0 (by decide) (by decide)]; rfl
  have e2 : M 6 119 = -1 := by rw [h 6 (by decide) (by decide)]; rfl
  refine ⟨⟨⟨⟨⟨?_, fun i i0 i1 => ?_⟩, by_ 9 (by decide) (by decide) (by decide) (by decide), by_ 145 (by decide) (by decide) (by decide) (by decide)⟩, ⟨e1.trans e2.symm, ?_, ?_⟩⟩, ⟨hr, hw, by_ 69 (by decide) (by decide) (by decide) (by decide), by_ 74 (by decide) (by decide) (by decide) (by decide), by_ 146 (by decide) (by decide) (by decide) (by decide), by_ 147 (by decide) (by decide) (by decide) (by decide)⟩, ?_, ⟨.inl ⟨z0 3 (by decide), z6 6 (by decide)⟩, .inl ⟨z0 3 (by decide), z6 120 (by decide)⟩⟩, fun e => ?_⟩, ⟨fun i _ _ => ?_, fun i _ _ => ?_, fun j => ?_⟩, .inl ⟨z0 4 (by decide), z6 126 (by decide)⟩, fun e => ?_⟩
  · rw [z0 6 (by decide), z6 3 (by decide)]; decide
  · rw [z 9 (by decide) (by decide) (by decide) (by decide), z 145 (by decide) (by decide) (by decide) (by decide)]
  · rw [z0 96 (by decide), z6 187 (by decide)]
  · rw [z0 97 (by decide), z6 188 (by decide)]
  · rw [z 1 (by decide) (by decide) (by decide) (by decide)]; decide
  · rw [z0 3 (by decide)] at e; omega
  · rw [z 24 (by decide) (by decide) (by decide) (by decide), z 241 (by decide) (by decide) (by decide) (by decide)]
  · rw [z 23 (by decide) (by decide) (by decide) (by decide), z 240 (by decide) (by decide) (by decide) (by decide)]
  · rw [z 239 (by decide) (by decide) (by decide) (by decide)]; unfold R32; omega
  · rw [z0 4 (by decide)] at e; omega
end T0a
end T458_t0
section T459_w3
/-! the constructor of Q: the numbers of its words -/
def w3L : List Int := [115, 105, 103, 110, 97, 108, 32, 114, 111, 117, 116, 101, 32, 112, 114, 111, 99, 101, 115, 115, 32, 118, 97, 114, 32, 116, 105, 109, 101, 114, 32, 115, 116, 97, 114, 116, 32, 115, 116, 97, 116, 101, 32, 105, 110, 112, 117, 116, 32, 115, 97, 118, 101, 32, 119, 104, 101, 110, 32, 110, 111, 110, 101, 32, 110, 101, 120, 116, 32, 115, 116, 111, 112, 32, 106, 111, 105, 110, 32, 111, 117, 116, 112, 117, 116, 32, 115, 101, 116, 32, 114, 101, 115, 101, 116, 32, 99, 114, 101, 97, 116, 101, 32, 100, 101, 99, 105, 100, 101, 32, 101, 108, 115, 101, 32, 101, 110, 100, 32, 116, 111, 32, 118, 105, 97, 32, 119, 105, 116, 104, 32, 100, 101, 108, 97, 121, 32, 101, 110, 118, 32, 105, 102, 32, 112, 114, 105, 111, 32, 105, 110, 116, 32, 98, 111, 111, 108, 32, 112, 105, 100, 32, 116, 114, 117, 101, 32, 102, 97, 108, 115, 101, 32, 110, 117, 108, 108, 32, 115, 101, 108, 102, 32, 115, 101, 110, 100, 101, 114, 32, 112, 97, 114, 101, 110, 116, 32, 111, 102, 102, 115, 112, 114, 105, 110, 103, 32, 110, 111, 119, 32, 97, 99, 116, 105, 118, 101, 32, 119, 97, 105, 116, 105, 110, 103, 32, 110, 111, 116, 32, 97, 110, 100, 32, 111, 114, 32, 99, 104, 97, 114, 116, 32, 105, 110, 115, 116, 32, 97, 108, 116, 32, 111, 112, 116, 32]
def w3v (i : Int) : Int := w3L.getD i.toNat 0
def RO3 (M : mm_) : Prop := M 1003 1 = 0 ∧ ∀ i, 0 ≤ i → i < 256 → M 1013 i = w3v i
/-- number of the word so far, words so far -/
def w3s : Nat → Int × Nat
  | 0 => (0, 0)
  | k + 1 => if w3v k = 32 then (0, (w3s k).2 + 1) else (38 * (w3s k).1 + cd_ (w3v k), (w3s k).2)
def w3p (k : Nat) : Prop := (0 ≤ (w3s k).1 ∧ (w3s k).1 < 100000000000000 ∧ (w3s k).2 ≤ 48) ∧ (0 ≤ w3v k ∧ w3v k ≤ 127) ∧ (w3v k = 32 → (w3s k).2 < 48 ∧ (w3s k).1 = pWh (w3s k).2) ∧ (0 ≤ cd_ (w3v k) ∧ cd_ (w3v k) ≤ 37)
def w3g : Nat → Int → Nat → Nat → Bool
  | 0, h, n, k => k == 256 && n == 48
  | f + 1, h, n, k => (decide (0 ≤ h ∧ h < 100000000000000 ∧ n ≤ 48) && (decide (0 ≤ w3v k ∧ w3v k ≤ 127) && (decide (w3v k = 32 → n < 48 ∧ h = pWh n) && decide (0 ≤ cd_ (w3v k) ∧ cd_ (w3v k) ≤ 37)))) && (if w3v k = 32 then w3g f 0 (n + 1) (k + 1) else w3g f (38 * h + cd_ (w3v k)) n (k + 1))
set_option maxRecDepth 100000 in
theorem w3ok : w3g 256 0 0 0 = true := by decide +kernel
theorem w3all : ∀ (f k : Nat), w3g f (w3s k).1 (w3s k).2 k = true → (∀ j : Nat, k ≤ j → j < k + f → w3p j) ∧ k + f = 256 ∧ (w3s (k + f)).2 = 48
  | 0, k, h => by
    unfold w3g at h
    rw [Bool.and_eq_true, beq_iff_eq, beq_iff_eq] at h
    exact ⟨fun j a b => by omega, by lia, h.2⟩
  | f + 1, k, h => by
    unfold w3g at h
    rw [Bool.and_eq_true] at h
    obtain ⟨h1, h2⟩ := h
    simp only [Bool.and_eq_true, decide_eq_true_eq] at h1
    have h3 : w3g f (w3s (k + 1)).1 (w3s (k + 1)).2 (k + 1) = true := by
      have e : w3s (k + 1) = if w3v k = 32 then (0, (w3s k).2 + 1) else (38 * (w3s k).1 + cd_ (w3v k), (w3s k).2) := rfl
      rw [e]
      by_cases c : w3v k = 32
      · rw [if_pos c] at h2 ⊢; exact h2
      · rw [if_neg c] at h2 ⊢; exact h2
    obtain ⟨r1, r2, r3⟩ := w3all f (k + 1) h3
    refine ⟨fun j a b => ?_, by omega, by rw [show k + (f + 1) = k + 1 + f by omega]; exact r3⟩
    by_cases e : j = k
    · rw [e]; exact ⟨h1.1, h1.2.1, h1.2.2.1, h1.2.2.2⟩
    · exact r1 j (by (clear h2 h1 h3 r1 r3 b; lia)) (by omega)
/-- its code from 1041 on -/
def k_210b : List en_ := [(1041, .astore_n 1, 1, 0, 0, []), (1042, .lconst 0, 1, 0, 0, []), (1043, .lstore_n 2, 1, 0, 0, []), (1044, .iconst 0, 1, 0, 0, []), (1045, .istore 4, 2, 0, 0, []), (1047, .iconst 0, 1, 0, 0, []), (1048, .istore 5, 2, 0, 0, []), (1050, .iload 5, 2, 0, 0, []), (1052, .aload_n 1, 1, 0, 0, []), (1053, .invokevirtual 386, 3, 420, 1, [((-1), 1), (1001, 0), (1002, 0), (1003, 0)]), (1056, .if_icmp .ge 53, 3, 1109, 0, []), (1059, .aload_n 1, 1, 0, 0, []), (1060, .iload 5, 2, 0, 0, []), (1062, .invokevirtual 392, 3, 425, 2, [((-1), 6), (1001, 0), (1002, 0), (1003, 0)]), (1065, .bipush 32, 2, 0, 0, []), (1067, .if_icmp .ne 19, 3, 1086, 0, []), (1070, .aload_n 0, 1, 0, 0, []), (1071, .getfield 19, 3, 2, 7, [(6, 148)]), (1074, .iload 4, 2, 0, 0, []), (1076, .lload_n 2, 1, 0, 0, []), (1077, .lastore, 1, 0, 0, []), (1078, .iinc 4 1, 3, 0, 0, []), (1081, .lconst 0, 1, 0, 0, []), (1082, .lstore_n 2, 1, 0, 0, []), (1083, .goto 20, 3, 1103, 0, []), (1086, .ldc2_w 396, 3, 0, 38, []), (1089, .lload_n 2, 1, 0, 0, []), (1090, .lmul, 1, 0, 0, []), (1091, .aload_n 1, 1, 0, 0, []), (1092, .iload 5, 2, 0, 0, []), (1094, .invokevirtual 392, 3, 425, 2, [((-1), 6), (1001, 0), (1002, 0), (1003, 0)]), (1097, .invokestatic 398, 3, 211, 1, [((-1), 1)]), (1100, .i2l, 1, 0, 0, []), (1101, .ladd, 1, 0, 0, []), (1102, .lstore_n 2, 1, 0, 0, []), (1103, .iinc 5 1, 3, 0, 0, []), (1106, .goto (-56), 3, 1050, 0, []), (1109, .return_, 1, 0, 0, [])]
def m_210b : md_ := (k_210b, 6, 0, [])
section W3
variable {d : Nat} {M : mm_} {K : Int → mm_ → Prop} {Qt : qt_} {V : vv_} {Qr : qr_}
theorem t_420c (h : ∀ V : vv_, Cl_ wd0 (Tr_ wd0 pg0 d) V (ri_ K) Qt m_420 → Wk_ V → V 0 [rr 1003] [] M) : Tr_ wd0 pg0 (d + 1) 420 [.inr (.inr 1003)] M (ri_ K) Qt := ⟨Nat.le_of_ble_eq_true rfl, h⟩
theorem t_421c (h : ∀ V : vv_, Cl_ wd0 (Tr_ wd0 pg0 d) V (ri_ K) Qt m_421 → Wk_ V → V 0 [rr 1003] [] M) : Tr_ wd0 pg0 (d + 1) 421 [.inr (.inr 1003)] M (ri_ K) Qt := ⟨Nat.le_of_ble_eq_true rfl, h⟩
theorem t_423c (h : ∀ V : vv_, Cl_ wd0 (Tr_ wd0 pg0 d) V (ri_ K) Qt m_423 → Wk_ V → V 0 [rr 1003] [] M) : Tr_ wd0 pg0 (d + 1) 423 [.inr (.inr 1003)] M (ri_ K) Qt := ⟨Nat.le_of_ble_eq_true rfl, h⟩
theorem t_425c {x : Int} (h : ∀ V : vv_, Cl_ wd0 (Tr_ wd0 pg0 d) V (ri_ K) Qt m_425 → Wk_ V → V 0 [rr 1003, ii x] [] M) : Tr_ wd0 pg0 (d + 1) 425 [.inr (.inr 1003), .inl x] M (ri_ K) Qt := ⟨Nat.le_of_ble_eq_true rfl, h⟩
theorem t_433c {x : Int} (h : ∀ V : vv_, Cl_ wd0 (Tr_ wd0 pg0 d) V (ri_ K) Qt m_433 → Wk_ V → V 0 [rr 1013, ii x] [] M) : Tr_ wd0 pg0 (d + 1) 433 [.inr (.inr 1013), .inl x] M (ri_ K) Qt := ⟨Nat.le_of_ble_eq_true rfl, h⟩
theorem b_420c (hV : Cl_ wd0 (Tr_ wd0 pg0 d) V Qr Qt m_420) (hW : Wk_ V) (h : Tr_ wd0 pg0 d 421 [.inr (.inr 1003)] M (ri_ fun v1 M1 => Qr [.inl (sr_ 256 v1)] M1) Qt) : V 0 [rr 1003] [] M := bx_go (Tr_mono _) hV hW [] 10 h
theorem b_421c (hV : Cl_ wd0 (Tr_ wd0 pg0 d) V Qr Qt m_421) (hW : Wk_ V) (h : if (1 : Int) = 0 then (-128 ≤ (1 : Int) ∧ (1 : Int) ≤ 127) ∧ Qr [.inl 1] M else (-128 ≤ M 1003 1 ∧ M 1003 1 ≤ 127) ∧ Qr [.inl (M 1003 1)] M) : V 0 [rr 1003] [] M := bx_go (Tr_mono _) hV hW [] 10 h
theorem b_423c (hV : Cl_ wd0 (Tr_ wd0 pg0 d) V Qr Qt m_423) (hW : Wk_ V) (h : if (1 : Int) = 0 then bl_ 0 ∧ Qr [.inl 0] M else (if M 1003 1 = 0 then bl_ 1 ∧ Qr [.inl 1] M else bl_ 0 ∧ Qr [.inl 0] M)) : V 0 [rr 1003] [] M := bx_go (Tr_mono _) hV hW [] 12 h
theorem b_433c {x1 : Int} (hV : Cl_ wd0 (Tr_ wd0 pg0 d) V Qr Qt m_433) (hW : Wk_ V) (h : Tr_ wd0 pg0 d 426 [.inl x1, .inl 256] M (rv_ fun M1 => (0 ≤ x1 ∧ x1 < 256) ∧ (0 ≤ ic_ (an_ (M1 1013 x1) 255) ∧ ic_ (an_ (M1 1013 x1) 255) ≤ 65535) ∧ Qr [.inl (ic_ (an_ (M1 1013 x1) 255))] M1) Qt) : V 0 [rr 1013, ii x1] [] M := bx_go (Tr_mono _) hV hW [] 16 h
theorem b_425c {x1 : Int} (hV : Cl_ wd0 (Tr_ wd0 pg0 d) V Qr Qt m_425) (hW : Wk_ V) (h : Tr_ wd0 pg0 d 423 [.inr (.inr 1003)] M (ri_ fun v1 M1 => if v1 = 0 then False else Tr_ wd0 pg0 d 433 [.inr (.inr 1013), .inl x1] M1 (ri_ fun v2 M2 => (0 ≤ v2 ∧ v2 ≤ 65535) ∧ Qr [.inl v2] M2) Qt) Qt) : V 0 [rr 1003, ii x1] [] M := bx_go (Tr_mono _) hV hW [] 16 h
theorem s_420c (hr : RO3 M) (h : K 256 M) : Tr_ wd0 pg0 (d + 2) 420 [.inr (.inr 1003)] M (ri_ K) Qt := t_420c fun V hV hW => b_420c hV hW (t_421c fun V hV hW => b_421c hV hW (by
  rw [if_neg (by decide), hr.1]
  exact ⟨by decide, ri_i (ri_i h)⟩))
theorem s_423c (hr : RO3 M) (h : K 1 M) : Tr_ wd0 pg0 (d + 1) 423 [.inr (.inr 1003)] M (ri_ K) Qt := t_423c fun V hV hW => b_423c hV hW (by
  rw [if_neg (by decide), if_pos hr.1]
  exact ⟨.inr rfl, ri_i h⟩)
theorem s_425c (hr : RO3 M) {x : Int} (h0 : 0 ≤ x) (h1 : x < 256) (hc : 0 ≤ w3v x ∧ w3v x ≤ 127) (h : K (w3v x) M) : Tr_ wd0 pg0 (d + 4) 425 [.inr (.inr 1003), .inl x] M (ri_ K) Qt := t_425c fun V hV hW => b_425c hV hW (s_423c hr (by
  rw [if_neg (by decide)]
  refine t_433c fun V hV hW => b_433c hV hW (t_426 fun V hV hW => b_426_0 (Tr_mono _) hV hW _ _ _ (t_437 fun V hV hW => b_437_0 (Tr_mono _) hV hW _ _ _ ?_))
  rw [if_neg (by omega), if_pos h1]
  refine ri_i (rv_i ⟨⟨h0, h1⟩, ?_⟩)
  have e : ic_ (an_ (M 1013 x) 255) = w3v x := by
    rw [hr.2 x h0 h1, an255 (by omega) (by omega)]
    unfold ic_
    omega
  rw [e]
  exact ⟨by omega, ri_i ⟨by omega, ri_i h⟩⟩))
set_option maxRecDepth 100000 in
theorem b_210_1041 (hV : Cl_ wd0 (Tr_ wd0 pg0 d) V Qr Qt m_210b) (hW : Wk_ V) (h : V 1050 [rr 6, rr 1003, some (.inr (.inl 0)), none, ii 0, ii 0] [] M) : V 1041 [rr 6, none, none, none, none, none] [.inr (.inr 1003)] M := bx_go (Tr_mono _) hV hW [(1050, [])] 10 h
set_option maxRecDepth 100000 in
theorem b_210_1050 {x4 x5 y : Int} (hV : Cl_ wd0 (Tr_ wd0 pg0 d) V Qr Qt m_210b) (hW : Wk_ V) (h : Tr_ wd0 pg0 d 420 [.inr (.inr 1003)] M (ri_ fun v1 M1 => if x5 < v1 then Tr_ wd0 pg0 d 425 [.inr (.inr 1003), .inl x5] M1 (ri_ fun v2 M2 => if v2 = 32 then (0 ≤ x4 ∧ x4 < 48) ∧ V 1050 [rr 6, rr 1003, some (.inr (.inl 0)), none, ii (w32 (x4 + 1)), ii (w32 (x5 + 1))] [] (up_ M2 148 x4 y) else Tr_ wd0 pg0 d 425 [.inr (.inr 1003), .inl x5] M2 (ri_ fun v3 M3 => Tr_ wd0 pg0 d 211 [.inl v3] M3 (ri_ fun v4 M4 => V 1050 [rr 6, rr 1003, some (.inr (.inl (w64 (w64 (38 * y) + v4)))), none, ii x4, ii (w32 (x5 + 1))] [] M4) Qt) Qt) Qt else Qr [] M1) Qt) : V 1050 [rr 6, rr 1003, some (.inr (.inl y)), none, ii x4, ii x5] [] M := bx_go (Tr_mono _) hV hW [(1050, [])] 40 h
set_option maxRecDepth 100000 in
theorem l_210 (hV : Cl_ wd0 (Tr_ wd0 pg0 (d + 4)) V Qr Qt m_210b) (hW : Wk_ V) (hr : RO3 M) (hq : ∀ M', (∀ r : Nat, r ≠ 148 → M' r = M r) → Wd_ M' → Qr [] M') : ∀ (f k : Nat) (M1 : mm_), k + f = 256 → (∀ r : Nat, r ≠ 148 → M1 r = M r) → (∀ w : Nat, w < (w3s k).2 → M1 148 w = pWh w) → V 1050 [rr 6, rr 1003, some (.inr (.inl (w3s k).1)), none, ii (((w3s k).2 : Nat) : Int), ii ((k : Nat) : Int)] [] M1
  | f, k, M1, hk, hM, hw => by
    have all := w3all 256 0 w3ok
    have hr1 : RO3 M1 := by unfold RO3; rw [hM 1003 (by decide), hM 1013 (by decide)]; exact hr
    refine b_210_1050 hV hW (s_420c hr1 ?_)
    by_cases c : (k : Int) < 256
    · obtain ⟨f, rfl⟩ : ∃ g, f = g + 1 := ⟨f - 1, by omega⟩
      obtain ⟨p1, p2, p3, p4⟩ := all.1 k (by (clear hV hW hr hq hM hw all hr1; lia)) (by (clear hV hW hr hq hM hw all hr1; omega))
      rw [if_pos c]
      refine s_425c hr1 (by (clear hV hW hr hq hM hw all hr1 p1 p2 p3 p4; lia)) c p2 ?_
      have e : w3s (k + 1) = if w3v k = 32 then (0, (w3s k).2 + 1) else (38 * (w3s k).1 + cd_ (w3v k), (w3s k).2) := rfl
      by_cases c2 : w3v k = 32
      · rw [if_pos c2] at e ⊢
        refine ⟨by have := p3 c2; (clear hV hW hr hq hM hw all hr1 c hk p2 p3 p4 e c2; omega), ?_⟩
        have ih := l_210 hV hW hr hq f (k + 1) (up_ M1 148 (((w3s k).2 : Nat) : Int) (w3s k).1) (by omega) (fun r h => by rw [up_ne h]; exact hM r h) (fun w h => by
          rw [e] at h
          have h : w < (w3s k).2 + 1 := h
          by_cases ew : w = (w3s k).2
          · rw [ew, up_at]; exact (p3 c2).2
          · rw [up_off (by (clear hV hW hr hq hM hw all hr1 c hk p1 p2 p3 p4 e c2 h; lia))]; exact hw w (by omega))
        rw [e] at ih
        rw [w32_id (by omega) (by omega), w32_id (by omega) (by omega)]
        exact ih
      · rw [if_neg c2] at e ⊢
        refine s_425c hr1 (by omega) c p2 (s_211 (by omega) (by omega) ?_)
        have ih := l_210 hV hW hr hq f (k + 1) M1 (by omega) hM (fun w h => by rw [e] at h; exact hw w h)
        rw [e] at ih
        rw [w32_id (by omega) (by omega), w64_id (x := 38 * (w3s k).1) (by (clear hV hW hr hq hM hw all hr1 c hk p2 p3 p4 e c2 ih; lia)) (by (clear hV hW hr hq hM hw all hr1 c hk p2 p3 p4 e c2 ih; omega)), w64_id (by omega) (by omega)]
        exact ih
    · rw [if_neg c]
      have e9 : k = 256 := by (clear hV hW hr hq hM hw all hr1; omega)
      refine hq M1 hM (fun w h => hw w ?_)
      have := all.2.2
      rw [e9]
      rw [show 0 + 256 = 256 from rfl] at this
      rw [this]; exact h
set_option maxRecDepth 100000 in
theorem x_210 (hV : Cl_ wd0 (Tr_ wd0 pg0 (d + 4)) V Qr Qt m_210b) (hW : Wk_ V) (hr : RO3 M) (hq : ∀ M', (∀ r : Nat, r ≠ 148 → M' r = M r) → Wd_ M' → Qr [] M') : V 1041 [rr 6, none, none, none, none, none] [.inr (.inr 1003)] M :=
  b_210_1041 hV hW (l_210 hV hW hr hq 256 0 M (by omega) (fun _ _ => rfl) (fun w h => absurd h (by show ¬ w < 0; omega)))
end W3
end T459_w3
section T460_l0
/-! the law's loop from the first memory -/
theorem law_00 {V : vv_} {Qt : qt_} {M : mm_} (hV : Cl_ wd0 lwD V (fun vs _ => vs = [.inl 1]) Qt m_450) (hW : Wk_ V) (hM : ∀ r : Nat, r < 267 → r ≠ 148 → ∀ i : Int, M r i = (if (r = 0 ∧ i = 71) ∨ (r = 6 ∧ i = 119) then -1 else 0)) (hw : Wd_ M) (hr : RO_ M) (h0 : 0 ≤ M 1000 (-1) ∧ M 1000 (-1) ≤ 384) (h1 : ∀ j, R32 (M 1000 j)) : V 18 [rr 1000, rr 0, rr 6, ii 0] [] M := by
  have i0 : Inhabited fz_ := ⟨fun _ _ => 0⟩
  exact law_l hV hW (fun _ => rfl) 64 0 0 M (by decide) ⟨TOP_0 hM hw hr, by decide, h0, h1⟩
end T460_l0
