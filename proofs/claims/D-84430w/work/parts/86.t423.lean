section T423_cr
/-! charts: the relation while a chart's text is read; names of insts and signals -/
def levQ (N : mm_) (j : Int) : Int := if j = 0 then -1 else N 263 (j - 1)
def rowQ (N : mm_) (j : Int) : Int := if j = 0 then 0 else N 264 (j - 1)
def lvL (N : mm_) (l j : Int) : Int := if j = 0 then -1 else N 260 (3 * l + (j - 1))
def rwL (N : mm_) (l j : Int) : Int := if j = 0 then 0 else N 261 (3 * l + (j - 1))
def SDR (M : mm_) (u v : Int) : Prop := (u = -2 ∧ v = -1) ∨ (u = v ∧ 0 ≤ u ∧ u < M 0 77) ∨ (u = -1 ∧ v = -1 ∧ M 0 92 ≠ 0)
def CNTc (M N : mm_) : Prop := (N 6 170 = M 0 77 ∧ 0 ≤ M 0 77 ∧ M 0 77 ≤ 8) ∧ (N 6 171 = M 0 76 ∧ 0 ≤ M 0 76 ∧ M 0 76 ≤ 40) ∧ (N 6 172 = M 0 78 ∧ 0 ≤ M 0 78 ∧ M 0 78 ≤ 6) ∧ (N 6 186 = M 0 79 ∧ 0 ≤ M 0 79 ∧ M 0 79 ≤ 3)
def INS (M N : mm_) : Prop := ∀ k, 0 ≤ k → k < M 0 77 → gdB M (M 44 k) ∧ M 75 (M 44 k) = 100 ∧ N 254 k = N 151 (M 44 k) ∧ N 255 k = M 45 k
def LIN (M N : mm_) (l : Int) : Prop := SDR M (M 46 l) (N 256 l) ∧ SDR M (M 47 l) (N 257 l) ∧ M 48 l = N 258 l ∧ (0 ≤ N 259 l ∧ N 259 l ≤ 3) ∧ M 49 l = lvL N l (N 259 l) ∧ M 50 l = rwL N l (N 259 l) ∧ ∀ j, 0 ≤ j → j < N 259 l → (0 ≤ N 260 (3 * l + j) ∧ N 260 (3 * l + j) < M 0 78) ∧ M 52 (N 260 (3 * l + j)) = lvL N l j ∧ M 53 (N 260 (3 * l + j)) = rwL N l j
def LNSc (M N : mm_) : Prop := ∀ l, 0 ≤ l → l < M 0 76 → LIN M N l
def OPN (M N : mm_) : Prop := (M 0 94 = levQ N (M 0 79) ∧ M 0 95 = rowQ N (M 0 79)) ∧ ∀ j, 0 ≤ j → j < M 0 79 → (0 ≤ N 263 j ∧ N 263 j < M 0 78) ∧ M 52 (N 263 j) = levQ N j ∧ M 53 (N 263 j) = rowQ N j ∧ 0 ≤ N 264 j ∧ (N 266 (N 263 j) = 0 → N 264 j + 1 = M 51 (N 263 j)) ∧ ∀ i, 0 ≤ i → i < j → N 263 i < N 263 j
def ALT (M N : mm_) : Prop := ∀ k, 0 ≤ k → k < M 0 78 → M 51 k = N 262 k ∧ 1 ≤ M 51 k ∧ M 51 k ≤ 4 ∧ BV (N 266 k)
def NTE (b : Int) (M N : mm_) : Prop := 0 ≤ M 0 92 ∧ (b = 1 → N 6 13 = M 0 92 ∧ (M 0 92 ≠ 0 → N 6 14 = M 0 93))
def CR (b : Int) (M N : mm_) (a : Int) : Prop := CB b M N a ∧ CNTc M N ∧ INS M N ∧ LNSc M N ∧ OPN M N ∧ ALT M N ∧ NTE b M N
/-- X's names of signals against Q's -/
def SGP (M N : mm_) : Prop := (0 ≤ M 4 0 ∧ M 4 0 ≤ 20 ∧ N 6 17 = M 4 0) ∧ (∀ s, 0 ≤ s → s < M 4 0 → 0 ≤ M 43 s ∧ M 43 s ≤ 10) ∧ ∀ t s, gdB M t → M 75 t = 100 → 0 ≤ s → s < M 4 0 → ((M 43 s = M 77 t - M 76 t ∧ ∀ i, 0 ≤ i → i < M 43 s → M 42 (10 * s + i) = M 74 (M 76 t + i)) ↔ N 152 s = N 151 t)
def xtL : List Nat := [0, 44, 45, 46, 47, 48, 49, 50]
def xtI : List Int := [75, 76, 77, 92, 93]
def qtL : List Nat := [6, 254, 255, 256, 257, 258, 259, 260, 261]
def qtI : List Int := [12, 13, 14, 170, 171]
def XTc (M M' : mm_) : Prop := (∀ r, r ∉ xtL → M' r = M r) ∧ ∀ i, i ∉ xtI → M' 0 i = M 0 i
def QT9 (N N' : mm_) : Prop := (∀ r, r ∉ qtL → N' r = N r) ∧ ∀ i, i ∉ qtI → N' 6 i = N 6 i
section CRa
variable {b : Int} {M N M' N' M1 N1 M2 N2 : mm_} {a k f t x c w p i u v : Int}
theorem XT_rf [Inhabited fz_] : XTc M M := ⟨fun _ _ => rfl, fun _ _ => rfl⟩
theorem QT_rf [Inhabited fz_] : QT9 N N := ⟨fun _ _ => rfl, fun _ _ => rfl⟩
theorem XT_tr [Inhabited fz_] (h : XTc M M1) (g : XTc M1 M2) : XTc M M2 := ⟨fun r hr => by rw [g.1 r hr, h.1 r hr], fun i hi => by rw [g.2 i hi, h.2 i hi]⟩
theorem QT_tr [Inhabited fz_] (h : QT9 N N1) (g : QT9 N1 N2) : QT9 N N2 := ⟨fun r hr => by rw [g.1 r hr, h.1 r hr], fun i hi => by rw [g.2 i hi, h.2 i hi]⟩
theorem XT_0 [Inhabited fz_] (h : XTc M M1) (hi : i ∈ xtI) : XTc M (up_ M1 0 i v) := ⟨fun r hr => by rw [up_ne (by rintro rfl; exact hr (by decide))]; exact h.1 r hr, fun j hj => by rw [upo (by rintro rfl; exact hj hi)]; exact h.2 j hj⟩
theorem QT_6 [Inhabited fz_] (h : QT9 N N1) (hi : i ∈ qtI) : QT9 N (up_ N1 6 i v) := ⟨fun r hr => by rw [up_ne (by rintro rfl; exact hr (by decide))]; exact h.1 r hr, fun j hj => by rw [upo (by rintro rfl; exact hj hi)]; exact h.2 j hj⟩
theorem XT_r [Inhabited fz_] {r : Nat} (h : XTc M M1) (hr : r ∈ xtL) (h0 : r ≠ 0) : XTc M (up_ M1 r i v) := ⟨fun r' hr' => by rw [up_ne (by rintro rfl; exact hr' hr)]; exact h.1 r' hr', fun j hj => by rw [up_ne (Ne.symm h0)]; exact h.2 j hj⟩
theorem QT_r [Inhabited fz_] {r : Nat} (h : QT9 N N1) (hr : r ∈ qtL) (h0 : r ≠ 6) : QT9 N (up_ N1 r i v) := ⟨fun r' hr' => by rw [up_ne (by rintro rfl; exact hr' hr)]; exact h.1 r' hr', fun j hj => by rw [up_ne (Ne.symm h0)]; exact h.2 j hj⟩
theorem XT_bd [Inhabited fz_] (h : XTc M M1) : XTc M (bdX M1 f p) := XT_0 (XT_0 h (by decide)) (by decide)
theorem QT_bf [Inhabited fz_] (h : QT9 N N1) : QT9 N (bf_ N1 f p) := QT_6 (QT_6 h (by decide)) (by decide)
theorem QT_nx [Inhabited fz_] (h : QT9 N N1) : QT9 N (nx_ N1) := QT_6 h (by decide)
theorem XT_nt [Inhabited fz_] (h : XTc M M1) : XTc M (ntX M1 k t) := by
  unfold ntX; split
  · exact XT_bd h
  · exact h
theorem QT_nt [Inhabited fz_] (h : QT9 N N1) : QT9 N (nt_ N1 k p) := by
  unfold nt_; split
  · exact h
  · split
    · exact QT_bf h
    · exact h
theorem SGP_c [Inhabited fz_] (h : SGP M N) (hx : XTc M M') (hq : QT9 N N') : SGP M' N' := by
  unfold SGP gdB at *
  rw [hx.1 4 (by decide), hx.1 42 (by decide), hx.1 43 (by decide), hx.1 74 (by decide), hx.1 75 (by decide), hx.1 76 (by decide), hx.1 77 (by decide), hq.1 151 (by decide), hq.1 152 (by decide), hq.2 17 (by decide)]
  exact h
/-- only the token and the notes have changed -/
def xsm (M M' : mm_) : Prop := (∀ r, r ≠ 0 → M' r = M r) ∧ (∀ i, i ∉ [75, 92, 93] → M' 0 i = M 0 i) ∧ (M 0 92 ≠ 0 → M' 0 92 ≠ 0)
def qsm (N N' : mm_) : Prop := (∀ r, r ≠ 6 → N' r = N r) ∧ ∀ i, i ∉ [12, 13, 14] → N' 6 i = N 6 i
theorem CR_sm [Inhabited fz_] (h : CR b M N a) (hx : xsm M M') (hq : qsm N N') {a' : Int} (h1 : CB b M' N' a') (h2 : NTE b M' N') : CR b M' N' a' := by
  obtain ⟨_, n1, n2, n3, n4, n5, _⟩ := h
  have xr := hx.1
  have x76 := hx.2.1 76 (by decide)
  have x77 := hx.2.1 77 (by decide)
  have x78 := hx.2.1 78 (by decide)
  have x79 := hx.2.1 79 (by decide)
  have x94 := hx.2.1 94 (by decide)
  have x95 := hx.2.1 95 (by decide)
  have sd : ∀ u v, SDR M u v → SDR M' u v := fun u v h => by
    unfold SDR at *; rw [x77]
    rcases h with h | h | ⟨e1, e2, e3⟩
    · exact .inl h
    · exact .inr (.inl h)
    · exact .inr (.inr ⟨e1, e2, hx.2.2 e3⟩)
  refine ⟨h1, ?_, ?_, ?_, ?_, ?_, h2⟩
  · unfold CNTc; rw [x76, x77, x78, x79, hq.2 170 (by decide), hq.2 171 (by decide), hq.2 172 (by decide), hq.2 186 (by decide)]; exact n1
  · unfold INS gdB at *; rw [x77, xr 44 (by decide), xr 45 (by decide), xr 75 (by decide), hq.1 254 (by decide), hq.1 255 (by decide), hq.1 151 (by decide)]; exact n2
  · intro l l0 l1
    rw [x76] at l1
    have := n3 l l0 l1
    unfold LIN lvL rwL at *
    rw [x78, xr 46 (by decide), xr 47 (by decide), xr 48 (by decide), xr 49 (by decide), xr 50 (by decide), xr 52 (by decide), xr 53 (by decide), hq.1 256 (by decide), hq.1 257 (by decide), hq.1 258 (by decide), hq.1 259 (by decide), hq.1 260 (by decide), hq.1 261 (by decide)]
    exact ⟨sd _ _ this.1, sd _ _ this.2.1, this.2.2⟩
  · unfold OPN levQ rowQ at *
    rw [x78, x79, x94, x95, xr 51 (by decide), xr 52 (by decide), xr 53 (by decide), hq.1 263 (by decide), hq.1 264 (by decide), hq.1 266 (by decide)]; exact n4
  · unfold ALT at *; rw [x78, xr 51 (by decide), hq.1 262 (by decide), hq.1 266 (by decide)]; exact n5
theorem CR_nx [Inhabited fz_] (h : CR b M N a) (h1 : M 75 a ≠ 102) (h2 : M 75 a ≠ 103) (h3 : a < 1200) : CR b (up_ M 0 75 (a + 1)) (nx_ N) (a + 1) := by
  refine CR_sm h ⟨fun r hr => up_ne hr, fun i hi => upo (by rintro rfl; exact hi (by decide)), fun e => by rw [upo (by decide)]; exact e⟩ ⟨fun r hr => up_ne hr, fun i hi => upo (by rintro rfl; exact hi (by decide))⟩ (CB_nx h.1 h1 h2 h3) ?_
  have := h.2.2.2.2.2.2
  show NTE b (up_ M 0 75 (a + 1)) (nx_ N)
  unfold NTE nx_ at *
  rw [upo (by decide), upo (by decide), upo (by decide), upo (by decide)]
  exact this
theorem ntX_92 [Inhabited fz_] (hk : k ≠ 0) : ntX M k t 0 92 ≠ 0 := by
  unfold ntX bdX
  split
  · rw [upo (by decide), up_at]; exact hk
  · rename_i c; omega
theorem ntX_s [Inhabited fz_] (hk : k ≠ 0) : xsm M (ntX M k t) := by
  refine ⟨fun r hr => ?_, fun i hi => ?_, fun _ => ntX_92 hk⟩
  · unfold ntX bdX; split
    · rw [up_ne hr, up_ne hr]
    · rfl
  · unfold ntX bdX; split
    · rw [upo (by rintro rfl; exact hi (by decide)), upo (by rintro rfl; exact hi (by decide))]
    · rfl
theorem ntQ_s [Inhabited fz_] : qsm N (nt_ N k p) := by
  refine ⟨fun r hr => ?_, fun i hi => ?_⟩
  · unfold nt_ bf_; split
    · rfl
    · split
      · rw [up_ne hr, up_ne hr]
      · rfl
  · unfold nt_ bf_; split
    · rfl
    · split
      · rw [upo (by rintro rfl; exact hi (by decide)), upo (by rintro rfl; exact hi (by decide))]
      · rfl
theorem CR_nt [Inhabited fz_] (h : CR b M N a) (hk : 0 < k) (hp : p = M 76 t) : CR b (ntX M k t) (nt_ N k p) a := by
  have hs := ntX_s (M := M) (k := k) (t := t) (by omega)
  have hq := ntQ_s (N := N) (k := k) (p := p)
  refine CR_sm h hs hq (CB_c h.1 (fun r hr => hs.1 r (by rintro rfl; exact absurd hr (by decide))) (fun r hr => hq.1 r (by rintro rfl; exact absurd hr (by decide))) ?_ ?_ (hq.2 16 (by decide)) fun e => ?_) ?_
  · unfold ntX bdX; split
    · rw [upo (by decide), upo (by decide)]
    · rfl
  · unfold nt_ bf_; split
    · rfl
    · split
      · rw [upo (by decide), upo (by decide)]
      · rfl
  · unfold nt_; rw [if_pos (by rw [h.1.2.2.2.1.1]; exact e)]
  · obtain ⟨n1, n2⟩ := h.2.2.2.2.2.2
    refine ⟨?_, fun e => ?_⟩
    · unfold ntX bdX; split
      · rw [upo (by decide), up_at]; omega
      · exact n1
    · obtain ⟨e1, e2⟩ := n2 e
      unfold nt_ ntX bdX bf_
      rw [if_neg (by rw [h.1.2.2.2.1.1]; omega)]
      by_cases z : M 0 92 = 0
      · rw [if_pos (.inl (by omega)), if_pos (.inl z), upo (by decide), up_at, upo (by decide), up_at, up_at, up_at]
        exact ⟨rfl, fun _ => hp⟩
      · have e3 := e2 z
        by_cases y : M 0 92 = 0 ∨ M 76 t < M 0 93 ∨ M 76 t = M 0 93 ∧ k < M 0 92
        · rw [if_pos (by omega), if_pos y, upo (by decide), up_at, upo (by decide), up_at, up_at, up_at]
          exact ⟨rfl, fun _ => hp⟩
        · rw [if_neg (by omega), if_neg y]
          exact ⟨e1, e2⟩
/-- an inst of a name -/
theorem j_79 [Inhabited fz_] (h : CR b M N a) (ht : gdB M t) (hk : M 75 t = 100) : ∃ v, (v = -1 ∨ (0 ≤ v ∧ v < M 0 77)) ∧ Ex_ 2 79 [.inr (.inr 0), .inl t] M [.inl v] M ∧ Ex_ 1 400 [.inr (.inr 6), .inr (.inl (N 151 t))] N [.inl v] N := by
  obtain ⟨hC, ⟨⟨n1, n2, n3⟩, _⟩, hI, _⟩ := h
  have T := hC.1
  have key : ∀ (n : Nat) (i : Int), M 0 77 - i = n → 0 ≤ i → ∃ v, (v = -1 ∨ (0 ≤ v ∧ v < M 0 77)) ∧ (∀ (V : vv_) (Qr : qr_) (Qt : qt_), Cl_ wd0 (Tr_ wd0 pg0 1) V Qr Qt m_79 → Wk_ V → Qr [.inl v] M → V 2 [rr 0, ii t, ii i] [] M) ∧ (∀ (V : vv_) (Qr : qr_) (Qt : qt_), Cl_ wd0 (Tr_ wd0 pg0 0) V Qr Qt m_400 → Wk_ V → Qr [.inl v] N → V 2 [rr 6, jj (N 151 t), none, ii i] [] N) := by
    intro n
    induction n with
    | zero =>
      intro i hi i0
      refine ⟨-1, .inl rfl, fun V Qr Qt hV hW g => b_79_2 (Tr_mono _) hV hW _ _ _ ?_, fun V Qr Qt hV hW g => b_400_2 (Tr_mono _) hV hW _ _ _ ?_⟩
      · rw [if_neg (by omega)]; exact g
      · rw [if_neg (by omega)]; exact g
    | succ n ih =>
      intro i hi i0
      have hi9 := hI i i0 (by omega)
      have tt := T t ht
      have ti := T (M 44 i) hi9.1
      have lk := ti.2.2.2.2.2.2 t ht hi9.2.1 hk
      have wi : w32 (i + 1) = i + 1 := w32_id (by omega) (by omega)
      by_cases c : N 151 (M 44 i) = N 151 t
      · refine ⟨i, .inr ⟨i0, by omega⟩, fun V Qr Qt hV hW g => b_79_2 (Tr_mono _) hV hW _ _ _ ?_, fun V Qr Qt hV hW g => b_400_2 (Tr_mono _) hV hW _ _ _ ?_⟩
        · rw [if_pos (by omega)]
          refine ⟨by omega, s_199b (d := 0) (by have := hi9.1.1; have := hi9.1.2.1; omega) (by have := ht.1; have := ht.2.1; omega) ti.2.2.2.1.1 ti.2.2.2.1.2.1 ti.2.2.2.1.2.2 tt.2.2.2.1.1 tt.2.2.2.1.2.1 tt.2.2.2.1.2.2 (fun _ _ => ?_) (fun z => absurd (lk.2 c) z)⟩
          rw [if_neg (by decide)]; exact g
        · rw [if_pos (by omega), if_pos (cmp9.2 (by rw [hi9.2.2.1]; exact c))]
          exact ⟨by omega, g⟩
      · obtain ⟨v, v1, v2, v3⟩ := ih (i + 1) (by omega) (by omega)
        refine ⟨v, v1, fun V Qr Qt hV hW g => b_79_2 (Tr_mono _) hV hW _ _ _ ?_, fun V Qr Qt hV hW g => b_400_2 (Tr_mono _) hV hW _ _ _ ?_⟩
        · rw [if_pos (by omega)]
          refine ⟨by omega, s_199b (d := 0) (by have := hi9.1.1; have := hi9.1.2.1; omega) (by have := ht.1; have := ht.2.1; omega) ti.2.2.2.1.1 ti.2.2.2.1.2.1 ti.2.2.2.1.2.2 tt.2.2.2.1.1 tt.2.2.2.1.2.1 tt.2.2.2.1.2.2 (fun z1 z2 => absurd (lk.1 ⟨z1, z2⟩) c) (fun _ => ?_)⟩
          rw [if_pos rfl, wi]; exact v2 V Qr Qt hV hW g
        · rw [if_pos (by omega), if_neg (fun z => c (by rw [← hi9.2.2.1]; exact cmp9.1 z)), wi]
          exact ⟨by omega, v3 V Qr Qt hV hW g⟩
  obtain ⟨v, v1, v2, v3⟩ := key (M 0 77).toNat 0 (by omega) (by omega)
  exact ⟨v, v1, fun Qr Qt g => t_79 fun V hV hW => b_79_0 (Tr_mono _) hV hW _ _ (v2 V Qr Qt hV hW g), fun Qr Qt g => t_400 fun V hV hW => b_400_0 (Tr_mono _) hV hW _ _ (v3 V Qr Qt hV hW g)⟩
/-- a signal of a name -/
theorem x_84l [Inhabited fz_] (ht : 0 ≤ t ∧ t ≤ 1200) (hp : 0 ≤ M 76 t ∧ M 77 t ≤ 5000) {s : Int} (hs : 0 ≤ s ∧ s < 20) (h43 : M 43 s = M 77 t - M 76 t) (hz : M 43 s ≤ 10) : ∀ (n : Nat) (i : Int), M 43 s - i = n → 0 ≤ i → ∀ (V : vv_) (Qr : qr_) (Qt : qt_), Cl_ wd0 (Tr_ wd0 pg0 0) V Qr Qt m_84 → Wk_ V → ((∀ j, i ≤ j → j < M 43 s → M 42 (10 * s + j) = M 74 (M 76 t + j)) → Qr [.inl s] M) → (¬ (∀ j, i ≤ j → j < M 43 s → M 42 (10 * s + j) = M 74 (M 76 t + j)) → V 22 [rr 0, ii t, ii (M 77 t - M 76 t), ii (s + 1), none, none] [] M) → V 53 [rr 0, ii t, ii (M 77 t - M 76 t), ii s, ii 1, ii i] [] M := by
  intro n
  have ws : w32 (s + 1) = s + 1 := w32_id (by omega) (by omega)
  induction n with
  | zero =>
    intro i hi i0 V Qr Qt hV hW g1 g2
    refine b_84_53 (Tr_mono _) hV hW _ _ _ _ _ _ ?_
    rw [if_neg (by omega), if_neg (by decide)]
    exact g1 fun j j0 j1 => by omega
  | succ n ih =>
    intro i hi i0 V Qr Qt hV hW g1 g2
    refine b_84_53 (Tr_mono _) hV hW _ _ _ _ _ _ ?_
    rw [if_pos (by omega), if_neg (by decide), w32_id (x := 10 * s) (by omega) (by omega), w32_id (x := 10 * s + i) (by omega) (by omega), w32_id (x := M 76 t + i) (by omega) (by omega), w32_id (x := i + 1) (by omega) (by omega)]
    refine ⟨by omega, fun _ => ⟨by omega, by omega, fun _ => ?_⟩⟩
    by_cases c : M 42 (10 * s + i) = M 74 (M 76 t + i)
    · rw [if_pos c]
      refine ih (i + 1) (by omega) (by omega) V Qr Qt hV hW (fun z => g1 fun j j0 j1 => ?_) (fun z => g2 fun y => z fun j j0 j1 => y j (by omega) j1)
      by_cases e : j = i
      · subst e; exact c
      · exact z j (by omega) j1
    · rw [if_neg c]
      refine b_84_53 (Tr_mono _) hV hW _ _ _ _ _ _ ?_
      have := g2 (fun y => c (y i (by omega) (by omega)))
      rw [ws]
      split
      · rw [if_pos rfl, if_pos rfl]; exact this
      · rw [if_pos rfl]; exact this
theorem j_84 [Inhabited fz_] (h : SGP M N) (hT : TksB M N) (ht : gdB M t) (hk : M 75 t = 100) : ∃ v, -1 ≤ v ∧ Ex_ 1 84 [.inr (.inr 0), .inl t] M [.inl v] M ∧ Ex_ 1 251 [.inr (.inr 6), .inr (.inl (N 151 t))] N [.inl v] N := by
  obtain ⟨⟨h1, h2, h3⟩, h4, h5⟩ := h
  have ht9 : 0 ≤ t ∧ t ≤ 1200 := ⟨ht.1, ht.2.1⟩
  have tt := (hT t ht).2.2.2.1
  have wn : w32 (M 77 t - M 76 t) = M 77 t - M 76 t := w32_id (by omega) (by omega)
  have key : ∀ (n : Nat) (s : Int), M 4 0 - s = n → 0 ≤ s → ∀ (V : vv_) (Qr : qr_) (Qt : qt_), Cl_ wd0 (Tr_ wd0 pg0 0) V Qr Qt m_84 → Wk_ V → Qr [.inl (fi_ (fun i => N 152 i) (N 151 t) n s)] M → V 22 [rr 0, ii t, ii (M 77 t - M 76 t), ii s, none, none] [] M := by
    intro n
    induction n with
    | zero =>
      intro s hs s0 V Qr Qt hV hW g
      refine b_84_22 (Tr_mono _) hV hW _ _ _ _ ?_
      rw [if_neg (by omega)]
      exact g
    | succ n ih =>
      intro s hs s0 V Qr Qt hV hW g
      refine b_84_22 (Tr_mono _) hV hW _ _ _ _ ?_
      rw [if_pos (by omega)]
      refine ⟨by omega, ?_⟩
      have h5 := h5 t s ht hk s0 (by omega)
      have e : fi_ (fun i => N 152 i) (N 151 t) (n + 1) s = if N 152 s = N 151 t then s else fi_ (fun i => N 152 i) (N 151 t) n (s + 1) := rfl
      rw [e] at g
      have no : ¬ (N 152 s = N 151 t) → V 22 [rr 0, ii t, ii (M 77 t - M 76 t), ii (s + 1), none, none] [] M := fun z => ih (s + 1) (by omega) (by omega) V Qr Qt hV hW (by rw [if_neg z] at g; exact g)
      have ws : w32 (s + 1) = s + 1 := w32_id (by omega) (by omega)
      by_cases c : M 43 s = M 77 t - M 76 t
      · rw [if_pos c]
        refine x_84l ht9 ⟨tt.1, tt.2.2⟩ (by omega) c (h4 s s0 (by omega)).2 (M 43 s).toNat 0 (by have := (h4 s s0 (by omega)).1; omega) (by omega) V Qr Qt hV hW (fun z => ?_) (fun z => no fun y => z (h5.2 y).2)
        rw [if_pos (h5.1 ⟨c, z⟩)] at g; exact g
      · rw [if_neg c]
        have := no (fun y => c (h5.2 y).1)
        refine b_84_53 (Tr_mono _) hV hW _ _ _ _ _ _ ?_
        rw [ws]
        split
        · rw [if_pos rfl, if_pos rfl]; exact this
        · rw [if_pos rfl]; exact this
  have r := fi_r (fun i => N 152 i) (N 151 t) (M 4 0).toNat 0
  refine ⟨fi_ (fun i => N 152 i) (N 151 t) (M 4 0).toNat 0, by omega, fun Qr Qt g => t_84 fun V hV hW => b_84_0 (Tr_mono _) hV hW _ _ ⟨by omega, by omega, ?_⟩, Ei fun Qt => q_251 (by omega) (by omega) ⟨rfl, rfl⟩⟩
  rw [wn]
  exact key (M 4 0).toNat 0 (by omega) (by omega) V Qr Qt hV hW g
end CRa
end T423_cr
section T424_in
/-! charts: an inst (X 78 | Q 399) -/
def QL (N N' : mm_) : Prop := RC 5 m_398 42 [rr 6] N 42 [rr 6] N'
def QEc (N N' : mm_) : Prop := ∀ (V : vv_) (Qr : qr_) (Qt : qt_), Cl_ wd0 (Tr_ wd0 pg0 5) V Qr Qt m_398 → Wk_ V → Qr [] N' → V 42 [rr 6] [] N
def FQc (M' N' : mm_) : Prop := sp_ N' ∧ N' 6 13 = M' 0 92 ∧ N' 6 14 = M' 0 93
def JO (d n : Nat) (as : List pv_) (b : Int) (M N : mm_) (R : mm_ → mm_ → Prop) : Prop := (∃ M' N', Ex_ d n as M [] M' ∧ QL N N' ∧ R M' N' ∧ XTc M M' ∧ QT9 N N') ∨ (∃ M', Th d n as M M' ∧ XTc M M' ∧ (b = 0 → ∃ N', QEc N N' ∧ FQc M' N' ∧ QT9 N N'))
section INa
variable {b : Int} {M N M' N' M1 N1 M2 N2 : mm_} {a k f t x c w p i u v : Int}
theorem FQc_b [Inhabited fz_] (h : N 6 16 = 0) (hf : 0 < f) : FQc (bdX M f p) (bf_ N f p) := ⟨bf_sp h hf, by unfold bdX bf_; rw [upo (by decide), up_at, upo (by decide), up_at], by unfold bdX bf_; rw [up_at, up_at]⟩
theorem QEc_s [Inhabited fz_] (h : sp_ N) : QEc N N := fun V Qr Qt hV hW g => b_398_42 (Tr_mono _) hV hW _ (Ex_le (d := 1) (by decide) (s_227 h) _ _ (ri_i (by
  rw [if_neg (by decide)]
  refine Ex_le (d := 1) (by decide) (s_227 h) _ _ (ri_i ?_)
  rw [if_neg (by decide)]; exact g)))
theorem QL_E [Inhabited fz_] (h : QL N N1) (g : QEc N1 N') : QEc N N' := fun V Qr Qt hV hW z => h V Qr Qt hV hW (g V Qr Qt hV hW z)
theorem CB_16 [Inhabited fz_] (h : CB b M N a) (hb : b = 0) : N 6 16 = 0 := by rw [h.2.2.2.1.1]; exact hb
theorem kq_0c [Inhabited fz_] (h : CB b M N a) : N 149 (N 6 12) = 0 ↔ M 75 a = 102 := by have := (CB_k h).1; unfold KQ at this; omega
theorem kq_1c [Inhabited fz_] (h : CB b M N a) : N 149 (N 6 12) = 1 ↔ M 75 a = 100 := by have := (CB_k h).1; unfold KQ at this; omega
/-- Q's loop at an inst -/
theorem q_in [Inhabited fz_] (h : CB b M N a) (hk : M 75 a = 45) {V : vv_} {Qr : qr_} {Qt : qt_} (hV : Cl_ wd0 (Tr_ wd0 pg0 5) V Qr Qt m_398) (hW : Wk_ V) (hN : Ex_ 3 228 [.inr (.inr 6), .inl 45] N [.inl 1] N1) (g : Tr_ wd0 pg0 5 399 [.inr (.inr 6)] N1 (rv_ fun M16 => V 42 [rr 6] [] M16) Qt) : V 42 [rr 6] [] N := b_398_42 (Tr_mono _) hV hW _ (Ex_le (d := 1) (by decide) (c_227 h) _ _ (ri_i (by
  rw [if_pos rfl]
  refine ⟨(CB_k h).2.2, ?_⟩
  rw [if_neg (fun z => by have := (kq_0c h).1 z; omega)]
  refine Ex_le (d := 3) (by decide) hN _ _ (ri_i ?_)
  rw [if_neg (by decide)]
  exact g)))
theorem q_ln [Inhabited fz_] (h : CB b M N a) (hk : M 75 a = 100 ∨ M 75 a = 25) {V : vv_} {Qr : qr_} {Qt : qt_} (hV : Cl_ wd0 (Tr_ wd0 pg0 5) V Qr Qt m_398) (hW : Wk_ V) (g : Tr_ wd0 pg0 5 401 [.inr (.inr 6)] N (rv_ fun M16 => V 42 [rr 6] [] M16) Qt) : V 42 [rr 6] [] N := b_398_42 (Tr_mono _) hV hW _ (Ex_le (d := 1) (by decide) (c_227 h) _ _ (ri_i (by
  rw [if_pos rfl]
  refine ⟨(CB_k h).2.2, ?_⟩
  rw [if_neg (fun z => by have := (kq_0c h).1 z; omega)]
  refine Ex_le (d := 3) (by decide) (c_228f h (by decide) (by omega)) _ _ (ri_i ?_)
  rw [if_pos rfl]
  refine ⟨(CB_k h).2.2, ?_⟩
  by_cases c : M 75 a = 100
  · rw [if_pos ((kq_1c h).2 c)]; exact g
  · rw [if_neg (fun z => c ((kq_1c h).1 z))]
    refine Ex_le (d := 1) (by decide) (c_229t h (w := 25) (by decide) (by omega)) _ _ (ri_i ?_)
    rw [if_neg (by decide)]; exact g)))
/-- an inst more -/
theorem CR_in [Inhabited fz_] (h : CR b M N a) (h8 : M 0 77 < 8) (ht : gdB M t) (hk : M 75 t = 100) : CR b (up_ (up_ (up_ M 44 (M 0 77) t) 45 (M 0 77) p) 0 77 (M 0 77 + 1)) (up_ (up_ (up_ N 254 (N 6 170) (N 151 t)) 255 (N 6 170) p) 6 170 (N 6 170 + 1)) a := by
  obtain ⟨h1, n1, n2, n3, n4, n5, n6⟩ := h
  obtain ⟨⟨c1, c2, c3⟩, cc⟩ := n1
  have sd : ∀ u v, SDR M u v → SDR (up_ (up_ (up_ M 44 (M 0 77) t) 45 (M 0 77) p) 0 77 (M 0 77 + 1)) u v := fun u v h => by
    unfold SDR at *; rw [up_at, upo (by decide), up_ne (by decide), up_ne (by decide)]
    rcases h with h | h | h
    · exact .inl h
    · exact .inr (.inl ⟨h.1, h.2.1, by omega⟩)
    · exact .inr (.inr h)
  refine ⟨CB_c h1 (fun r hr => ?_) (fun r hr => ?_) ?_ ?_ ?_ (fun _ => ?_), ⟨⟨?_, ?_⟩, ?_⟩, ?_, ?_, ?_, ?_, ?_⟩
  · rw [up_ne (by rintro rfl; exact absurd hr (by decide)), up_ne (by rintro rfl; exact absurd hr (by decide)), up_ne (by rintro rfl; exact absurd hr (by decide))]
  · rw [up_ne (by rintro rfl; exact absurd hr (by decide)), up_ne (by rintro rfl; exact absurd hr (by decide)), up_ne (by rintro rfl; exact absurd hr (by decide))]
  · rw [upo (by decide), up_ne (by decide), up_ne (by decide)]
  · rw [upo (by decide), up_ne (by decide), up_ne (by decide)]
  · rw [upo (by decide), up_ne (by decide), up_ne (by decide)]
  · rw [upo (by decide), up_ne (by decide), up_ne (by decide)]
  · rw [up_at, up_at, c1]
  · rw [up_at]; omega
  · rw [upo (by decide), upo (by decide), upo (by decide), upo (by decide), upo (by decide), upo (by decide), up_ne (by decide), up_ne (by decide), up_ne (by decide), up_ne (by decide)]
    exact cc
  · intro k k0 k1
    rw [up_at] at k1
    unfold gdB
    rw [up_ne (r' := 44) (by decide), up_ne (r' := 44) (by decide), up_ne (r' := 45) (by decide), up_ne (r' := 75) (by decide), up_ne (r' := 75) (by decide), up_ne (r' := 75) (by decide), up_ne (r' := 254) (by decide), up_ne (r' := 254) (by decide), up_ne (r' := 255) (by decide), up_ne (r' := 151) (by decide), up_ne (r' := 151) (by decide), up_ne (r' := 151) (by decide), c1]
    by_cases e : k = M 0 77
    · subst e; rw [up_at, up_at, up_at, up_at]; exact ⟨ht, hk, rfl, rfl⟩
    · rw [upo e, upo e, upo e, upo e]
      exact n2 k k0 (by omega)
  · intro l l0 l1
    rw [upo (by decide), up_ne (by decide), up_ne (by decide)] at l1
    have := n3 l l0 l1
    unfold LIN at this ⊢
    unfold lvL rwL at *
    rw [upo (j := 78) (by decide), up_ne (r' := 0) (by decide), up_ne (r' := 0) (by decide)]
    simp only [up_ne (show (46 : Nat) ≠ 0 by decide), up_ne (show (46 : Nat) ≠ 44 by decide), up_ne (show (46 : Nat) ≠ 45 by decide), up_ne (show (47 : Nat) ≠ 0 by decide), up_ne (show (47 : Nat) ≠ 44 by decide), up_ne (show (47 : Nat) ≠ 45 by decide), up_ne (show (48 : Nat) ≠ 0 by decide), up_ne (show (48 : Nat) ≠ 44 by decide), up_ne (show (48 : Nat) ≠ 45 by decide), up_ne (show (49 : Nat) ≠ 0 by decide), up_ne (show (49 : Nat) ≠ 44 by decide), up_ne (show (49 : Nat) ≠ 45 by decide), up_ne (show (50 : Nat) ≠ 0 by decide), up_ne (show (50 : Nat) ≠ 44 by decide), up_ne (show (50 : Nat) ≠ 45 by decide), up_ne (show (52 : Nat) ≠ 0 by decide), up_ne (show (52 : Nat) ≠ 44 by decide), up_ne (show (52 : Nat) ≠ 45 by decide), up_ne (show (53 : Nat) ≠ 0 by decide), up_ne (show (53 : Nat) ≠ 44 by decide), up_ne (show (53 : Nat) ≠ 45 by decide), up_ne (show (256 : Nat) ≠ 6 by decide), up_ne (show (256 : Nat) ≠ 254 by decide), up_ne (show (256 : Nat) ≠ 255 by decide), up_ne (show (257 : Nat) ≠ 6 by decide), up_ne (show (257 : Nat) ≠ 254 by decide), up_ne (show (257 : Nat) ≠ 255 by decide), up_ne (show (258 : Nat) ≠ 6 by decide), up_ne (show (258 : Nat) ≠ 254 by decide), up_ne (show (258 : Nat) ≠ 255 by decide), up_ne (show (259 : Nat) ≠ 6 by decide), up_ne (show (259 : Nat) ≠ 254 by decide), up_ne (show (259 : Nat) ≠ 255 by decide), up_ne (show (260 : Nat) ≠ 6 by decide), up_ne (show (260 : Nat) ≠ 254 by decide), up_ne (show (260 : Nat) ≠ 255 by decide), up_ne (show (261 : Nat) ≠ 6 by decide), up_ne (show (261 : Nat) ≠ 254 by decide), up_ne (show (261 : Nat) ≠ 255 by decide)]
    exact ⟨sd _ _ this.1, sd _ _ this.2.1, this.2.2⟩
  · unfold OPN levQ rowQ at *
    rw [upo (j := 78) (by decide), upo (j := 79) (by decide), upo (j := 94) (by decide), upo (j := 95) (by decide), up_ne (r' := 0) (by decide), up_ne (r' := 0) (by decide)]
    simp only [up_ne (show (51 : Nat) ≠ 0 by decide), up_ne (show (51 : Nat) ≠ 44 by decide), up_ne (show (51 : Nat) ≠ 45 by decide), up_ne (show (52 : Nat) ≠ 0 by decide), up_ne (show (52 : Nat) ≠ 44 by decide), up_ne (show (52 : Nat) ≠ 45 by decide), up_ne (show (53 : Nat) ≠ 0 by decide), up_ne (show (53 : Nat) ≠ 44 by decide), up_ne (show (53 : Nat) ≠ 45 by decide), up_ne (show (263 : Nat) ≠ 6 by decide), up_ne (show (263 : Nat) ≠ 254 by decide), up_ne (show (263 : Nat) ≠ 255 by decide), up_ne (show (264 : Nat) ≠ 6 by decide), up_ne (show (264 : Nat) ≠ 254 by decide), up_ne (show (264 : Nat) ≠ 255 by decide), up_ne (show (266 : Nat) ≠ 6 by decide), up_ne (show (266 : Nat) ≠ 254 by decide), up_ne (show (266 : Nat) ≠ 255 by decide)]
    exact n4
  · unfold ALT at *
    rw [upo (j := 78) (by decide), up_ne (r' := 0) (by decide), up_ne (r' := 0) (by decide)]
    simp only [up_ne (show (51 : Nat) ≠ 0 by decide), up_ne (show (51 : Nat) ≠ 44 by decide), up_ne (show (51 : Nat) ≠ 45 by decide), up_ne (show (262 : Nat) ≠ 6 by decide), up_ne (show (262 : Nat) ≠ 254 by decide), up_ne (show (262 : Nat) ≠ 255 by decide), up_ne (show (266 : Nat) ≠ 6 by decide), up_ne (show (266 : Nat) ≠ 254 by decide), up_ne (show (266 : Nat) ≠ 255 by decide)]
    exact n5
  · unfold NTE at *
    rw [upo (j := 92) (by decide), upo (j := 93) (by decide), upo (j := 13) (by decide), upo (j := 14) (by decide), up_ne (r' := 0) (by decide), up_ne (r' := 0) (by decide), up_ne (r' := 6) (by decide), up_ne (r' := 6) (by decide)]
    exact n6
end INa
end T424_in
section T425_in
/-! charts: an inst whole (X 78 | Q 399) -/
section INb
variable {b : Int} {M N M' N' M1 N1 M2 N2 : mm_} {a k f t x c w p i u v : Int}
theorem nk_of [Inhabited fz_] {κ : Int} (h : M 75 a = κ) (h1 : κ ≠ 102) (h2 : κ ≠ 103) : M 75 a ≠ 102 ∧ M 75 a ≠ 103 := ⟨by rw [h]; exact h1, by rw [h]; exact h2⟩
/-- a kind is here, or not -/
theorem Bd_or [Inhabited fz_] (h : CB b M N a) (k : Int) : (M 75 a = k ∧ a < 1200) ∨ ∃ f, Bd M a k f := by
  have := CB_a h
  by_cases c : M 75 a = k
  · by_cases e : a < 1200
    · exact .inl ⟨c, e⟩
    · exact .inr ⟨2, .inr ⟨c, by omega, rfl⟩⟩
  · exact .inr ⟨1, .inl ⟨c, rfl⟩⟩
/-- both from a place within a method: a run, or a stop -/
def JV (dx : Nat) (mx : md_) (px : Nat) (lx : lo_) (dq : Nat) (mq : md_) (pq : Nat) (lq : lo_) (b : Int) (M N : mm_) (R : mm_ → mm_ → Prop) : Prop := (∃ M' N', (∀ (V : vv_) (Qr : qr_) (Qt : qt_), Cl_ wd0 (Tr_ wd0 pg0 dx) V Qr Qt mx → Wk_ V → Qr [] M' → V px lx [] M) ∧ (∀ (V : vv_) (Qr : qr_) (Qt : qt_), Cl_ wd0 (Tr_ wd0 pg0 dq) V Qr Qt mq → Wk_ V → Qr [] N' → V pq lq [] N) ∧ R M' N' ∧ XTc M M' ∧ QT9 N N') ∨ (∃ M', (∀ (V : vv_) (Qr : qr_) (Qt : qt_), Cl_ wd0 (Tr_ wd0 pg0 dx) V Qr Qt mx → Wk_ V → Qt 7 M' → V px lx [] M) ∧ XTc M M' ∧ (b = 0 → ∃ N', (∀ (V : vv_) (Qr : qr_) (Qt : qt_), Cl_ wd0 (Tr_ wd0 pg0 dq) V Qr Qt mq → Wk_ V → Qr [] N' → V pq lq [] N) ∧ FQc M' N' ∧ QT9 N N'))
theorem jv_in [Inhabited fz_] (h : CR b M N a) (ht : gdB M t) (hk : M 75 t = 100) (h8 : M 0 77 < 8) : JV 3 m_78 70 [rr 0, ii t, none] 4 m_399 58 [rr 6, ii t, none] b M N (fun M' N' => CR b M' N' (a + 1 + 1 + 1)) := by
  have ha := CB_a h.1
  have htt : 0 ≤ t ∧ t < 1202 := ⟨ht.1, by have := ht.2.1; omega⟩
  have n77 := h.2.1.1
  rcases Bd_or h.1 261 with ⟨k1, a1⟩ | ⟨f, hf⟩
  · have nk := nk_of k1 (by decide) (by decide)
    have h1 := CR_nx h nk.1 nk.2 a1
    have x1 := x_76 (c := 61) ha h.1.2.2.1.1 (by decide) k1 a1
    have q1 := c_244 h.1 (x := 61) (by decide) k1 a1
    have fx1 : XTc M (up_ M 0 75 (a + 1)) := XT_0 XT_rf (by decide)
    have fq1 : QT9 N (nx_ N) := QT_nx QT_rf
    have e77 : (up_ M 0 75 (a + 1)) 0 77 = M 0 77 := upo (by decide)
    generalize up_ M 0 75 (a + 1) = M1 at h1 x1 fx1 e77
    generalize nx_ N = N1 at h1 q1 fq1
    have ha1 := CB_a h1.1
    rcases Bd_or h1.1 101 with ⟨k2, a2⟩ | ⟨f, hf⟩
    · have nk2 := nk_of k2 (by decide) (by decide)
      have h2 := CR_nx h1 nk2.1 nk2.2 a2
      have x2 := x_73 ha1 h1.1.2.2.1.1 k2 a2
      have q2 := c_249 h1.1 k2 a2
      have fx2 : XTc M (up_ M1 0 75 (a + 1 + 1)) := XT_0 fx1 (by decide)
      have fq2 : QT9 N (nx_ N1) := QT_nx fq1
      have e772 : (up_ M1 0 75 (a + 1 + 1)) 0 77 = M 0 77 := by rw [upo (by decide)]; exact e77
      generalize up_ M1 0 75 (a + 1 + 1) = M2 at h2 x2 fx2 e772
      generalize nx_ N1 = N2 at h2 q2 fq2
      have ha2 := CB_a h2.1
      rcases Bd_or h2.1 259 with ⟨k3, a3⟩ | ⟨f, hf⟩
      · have nk3 := nk_of k3 (by decide) (by decide)
        have h3 := CR_nx h2 nk3.1 nk3.2 a3
        have x3 := x_76 (c := 59) ha2 h2.1.2.2.1.1 (by decide) k3 a3
        have q3 := c_244 h2.1 (x := 59) (by decide) k3 a3
        have fx3 : XTc M (up_ M2 0 75 (a + 1 + 1 + 1)) := XT_0 fx2 (by decide)
        have fq3 : QT9 N (nx_ N2) := QT_nx fq2
        have e773 : (up_ M2 0 75 (a + 1 + 1 + 1)) 0 77 = M 0 77 := by rw [upo (by decide)]; exact e772
        generalize up_ M2 0 75 (a + 1 + 1 + 1) = M3 at h3 x3 fx3 e773
        generalize nx_ N2 = N3 at h3 q3 fq3
        have ht3 : gdB M3 t := gdB_c ht (fx3.1 75 (by decide))
        have hk3 : M3 75 t = 100 := by rw [fx3.1 75 (by decide)]; exact hk
        have c3 := h3.2.1.1
        refine .inl ⟨_, _, fun V Qr Qt hV hW g => b_78_70 (Tr_mono _) hV hW _ _ ?_, fun V Qr Qt hV hW g => b_399_58 (Tr_mono _) hV hW _ _ ?_, CR_in (p := M1 78 (a + 1)) h3 (by omega) ht3 hk3, XT_0 (XT_r (XT_r fx3 (by decide) (by decide)) (by decide) (by decide)) (by decide), QT_6 (QT_r (QT_r fq3 (by decide) (by decide)) (by decide) (by decide)) (by decide)⟩
        · refine x1 _ _ (rv_i ⟨?_, Ex_le (d := 2) (by decide) x2 _ _ (rv_i (x3 _ _ (rv_i ⟨?_, ?_, ?_⟩)))⟩)
          · rw [h1.1.2.2.1.1]; omega
          · omega
          · omega
          · rw [h1.1.2.2.1.1, w32_id (by omega) (by omega)]; exact g
        · refine Ex_le (d := 3) (by decide) q1 _ _ (rv_i (Ex_le (d := 3) (by decide) q2 _ _ (ri_i (Ex_le (d := 3) (by decide) q3 _ _ (rv_i (Ex_le (d := 1) (by decide) (c_227 h3.1) _ _ (ri_i ?_)))))))
          rw [if_pos rfl, w32_id (by omega) (by omega)]
          exact ⟨htt, by omega, by omega, g⟩
      · refine .inr ⟨bdX M2 f (M2 76 (a + 1 + 1)), fun V Qr Qt hV hW g => b_78_70 (Tr_mono _) hV hW _ _ ?_, XT_bd fx2, fun hb => ⟨bf_ N2 f (M2 76 (a + 1 + 1)), fun V Qr Qt hV hW g => b_399_58 (Tr_mono _) hV hW _ _ ?_, FQc_b (CB_16 h2.1 hb) (Bd_f hf), QT_bf fq2⟩⟩
        · exact x1 _ _ (rv_i ⟨by rw [h1.1.2.2.1.1]; omega, Ex_le (d := 2) (by decide) x2 _ _ (rv_i (x_76b (c := 59) ha2 h2.1.2.2.1.1 (by decide) hf _ _ g))⟩)
        · refine Ex_le (d := 3) (by decide) q1 _ _ (rv_i (Ex_le (d := 3) (by decide) q2 _ _ (ri_i (Ex_le (d := 3) (by decide) (c_244b h2.1 hb (x := 59) (by decide) hf) _ _ (rv_i (Ex_le (d := 1) (by decide) (s_227 (sp_b (CB_16 h2.1 hb) (Bd_f hf))) _ _ (ri_i ?_)))))))
          rw [if_neg (by decide)]; exact g
    · refine .inr ⟨bdX M1 f (M1 76 (a + 1)), fun V Qr Qt hV hW g => b_78_70 (Tr_mono _) hV hW _ _ ?_, XT_bd fx1, fun hb => ?_⟩
      · exact x1 _ _ (rv_i ⟨by rw [h1.1.2.2.1.1]; omega, Th_le (d := 2) (by decide) (x_73b ha1 h1.1.2.2.1.1 hf) _ _ g⟩)
      · obtain ⟨v, q2⟩ := c_249b h1.1 hb hf
        have sp := sp_b (p := M1 76 (a + 1)) (CB_16 h1.1 hb) (Bd_f hf)
        refine ⟨bf_ N1 f (M1 76 (a + 1)), fun V Qr Qt hV hW g => b_399_58 (Tr_mono _) hV hW _ _ ?_, FQc_b (CB_16 h1.1 hb) (Bd_f hf), QT_bf fq1⟩
        refine Ex_le (d := 3) (by decide) q1 _ _ (rv_i (Ex_le (d := 3) (by decide) q2 _ _ (ri_i (Ex_le (d := 3) (by decide) (s_244 sp) _ _ (rv_i (Ex_le (d := 1) (by decide) (s_227 sp) _ _ (ri_i ?_)))))))
        rw [if_neg (by decide)]; exact g
  · refine .inr ⟨bdX M f (M 76 a), fun V Qr Qt hV hW g => b_78_70 (Tr_mono _) hV hW _ _ ?_, XT_bd XT_rf, fun hb => ?_⟩
    · exact x_76b (c := 61) ha h.1.2.2.1.1 (by decide) hf _ _ g
    · have sp := sp_b (p := M 76 a) (CB_16 h.1 hb) (Bd_f hf)
      refine ⟨bf_ N f (M 76 a), fun V Qr Qt hV hW g => b_399_58 (Tr_mono _) hV hW _ _ ?_, FQc_b (CB_16 h.1 hb) (Bd_f hf), QT_bf QT_rf⟩
      refine Ex_le (d := 3) (by decide) (c_244b h.1 hb (x := 61) (by decide) hf) _ _ (rv_i (Ex_le (d := 3) (by decide) (s_249 sp) _ _ (ri_i (Ex_le (d := 3) (by decide) (s_244 sp) _ _ (rv_i (Ex_le (d := 1) (by decide) (s_227 sp) _ _ (ri_i ?_)))))))
      rw [if_neg (by decide)]; exact g
theorem x_80n [Inhabited fz_] (ht : 0 ≤ t ∧ t ≤ 1200) (d : Nat) (hd : 1 ≤ d) : Ex_ d 80 [.inr (.inr 0), .inl k, .inl t] M [] (ntX M k t) := Ex_le hd (x_80 ht)
/-- an inst -/
theorem j_78 [Inhabited fz_] (h : CR b M N a) (hk : M 75 a = 45) : JO 4 78 [.inr (.inr 0)] b M N (fun M' N' => ∃ a', a < a' ∧ CR b M' N' a') := by
  have ha := CB_a h.1
  by_cases a1 : a < 1200
  · have nk := nk_of hk (by decide) (by decide)
    have h1 := CR_nx h nk.1 nk.2 a1
    have x1 := x_73 ha h.1.2.2.1.1 hk a1
    have q1 := c_228t h.1 (w := 45) (by decide) hk a1
    have fx1 : XTc M (up_ M 0 75 (a + 1)) := XT_0 XT_rf (by decide)
    have fq1 : QT9 N (nx_ N) := QT_nx QT_rf
    generalize up_ M 0 75 (a + 1) = M1 at h1 x1 fx1
    generalize nx_ N = N1 at h1 q1 fq1
    have ha1 := CB_a h1.1
    have e1 := h1.1.2.2.1.1
    have n1 := h1.2.1.1
    -- Q, from the loop's head into 399
    have toQ : ∀ {N'}, Ex_ 5 399 [.inr (.inr 6)] N1 [] N' → QL N N' := fun g V Qr Qt hV hW z => q_in h.1 hk hV hW q1 (g _ _ (rv_i z))
    by_cases k2 : M1 75 (a + 1) = 100
    · by_cases c8 : M1 0 77 = 8
      · refine .inr ⟨_, fun Qr Qt g => t_78 fun V hV hW => b_78_0 (Tr_mono _) hV hW _ ?_, XT_bd (f := 2) (p := M1 76 (a + 1)) fx1, fun hb => ?_⟩
        · refine Ex_le (d := 2) (by decide) x1 _ _ (rv_i (Ex_le (d := 1) (by decide) (x_74t ha1 e1 k2) _ _ (ri_i ?_)))
          rw [if_neg (by decide), if_pos c8, e1]
          refine Ex_le (d := 1) (by decide) (x_75c ha1) _ _ (rf_i ?_)
          rw [if_neg (by decide)]; exact g
        · by_cases a2 : a + 1 < 1200
          · have nk2 := nk_of k2 (by decide) (by decide)
            have h2 := CB_nx h1.1 nk2.1 nk2.2 a2
            have q2 := c_233 h1.1 k2 a2
            have fq2 : QT9 N (nx_ N1) := QT_nx fq1
            have e170 : (nx_ N1) 6 170 = 8 := by unfold nx_; rw [upo (by decide), n1.1, c8]
            have e150 : (nx_ N1) 150 (a + 1) = M1 76 (a + 1) := by unfold nx_; rw [up_ne (by decide), ← (CB_k h1.1).2.1, h1.1.2.2.1.2]
            generalize nx_ N1 = N2 at h2 q2 fq2 e170 e150
            have sp := sp_b (p := M1 76 (a + 1)) (f := 2) (CB_16 h2 hb) (by decide)
            refine ⟨_, QL_E (toQ (N' := bf_ N2 2 (M1 76 (a + 1))) fun Qr Qt g => t_399 fun V hV hW => b_399_0 (Tr_mono _) hV hW _ ?_) (QEc_s sp), FQc_b (CB_16 h2 hb) (by decide), QT_bf fq2⟩
            refine Ex_le (d := 3) (by decide) q2 _ _ (ri_i (Ex_le (d := 1) (by decide) (c_227 h2) _ _ (ri_i ?_)))
            rw [if_pos rfl, if_pos e170, e150]
            exact ⟨by omega, Ex_le (d := 1) (by decide) (c_231 h2 hb) _ _ (rv_i g)⟩
          · have sp := sp_b (p := M1 76 (a + 1)) (f := 2) (CB_16 h1.1 hb) (by decide)
            refine ⟨_, QL_E (toQ (N' := bf_ N1 2 (M1 76 (a + 1))) fun Qr Qt g => t_399 fun V hV hW => b_399_0 (Tr_mono _) hV hW _ ?_) (QEc_s sp), FQc_b (CB_16 h1.1 hb) (by decide), QT_bf fq1⟩
            refine Ex_le (d := 3) (by decide) (c_233b h1.1 hb (.inr ⟨k2, by omega, rfl⟩)) _ _ (ri_i (Ex_le (d := 1) (by decide) (s_227 sp) _ _ (ri_i ?_)))
            rw [if_neg (by decide)]; exact g
      · by_cases a2 : a + 1 < 1200
        · have nk2 := nk_of k2 (by decide) (by decide)
          have h2 := CR_nx h1 nk2.1 nk2.2 a2
          have x2 := x_73 ha1 e1 k2 a2
          have q2 := c_233 h1.1 k2 a2
          have fx2 : XTc M (up_ M1 0 75 (a + 1 + 1)) := XT_0 fx1 (by decide)
          have fq2 : QT9 N (nx_ N1) := QT_nx fq1
          have e77 : (up_ M1 0 75 (a + 1 + 1)) 0 77 = M1 0 77 := upo (by decide)
          have g2 : gdB (up_ M1 0 75 (a + 1 + 1)) (a + 1) := gdB_c h1.1.2.1 (up_ne (by decide))
          have k22 : (up_ M1 0 75 (a + 1 + 1)) 75 (a + 1) = 100 := by rw [up_ne (by decide)]; exact k2
          have e150 : (nx_ N1) 150 (a + 1) = (up_ M1 0 75 (a + 1 + 1)) 76 (a + 1) := by unfold nx_; rw [up_ne (by decide), ← h1.1.2.2.1.2, (CB_k h1.1).2.1, h1.1.2.2.1.2, up_ne (by decide)]
          generalize up_ M1 0 75 (a + 1 + 1) = M2 at h2 x2 fx2 e77 g2 k22 e150
          generalize nx_ N1 = N2 at h2 q2 fq2 e150
          obtain ⟨v, hv, xv, qv⟩ := j_79 h2 g2 k22
          -- the note
          have st : ∃ M3 N3, CR b M3 N3 (a + 1 + 1) ∧ (gdB M3 (a + 1) ∧ M3 75 (a + 1) = 100 ∧ M3 0 77 = M1 0 77) ∧ (XTc M M3 ∧ QT9 N N3) ∧ (∀ (V : vv_) (Qr : qr_) (Qt : qt_), Cl_ wd0 (Tr_ wd0 pg0 3) V Qr Qt m_78 → Wk_ V → V 70 [rr 0, ii (a + 1), none] [] M3 → V 0 [rr 0, none, none] [] M) ∧ (∀ (V : vv_) (Qr : qr_) (Qt : qt_), Cl_ wd0 (Tr_ wd0 pg0 4) V Qr Qt m_399 → Wk_ V → V 58 [rr 6, ii (a + 1), none] [] N3 → V 0 [rr 6, none, none] [] N1) := by
            have px : ∀ (V : vv_) (Qr : qr_) (Qt : qt_), Cl_ wd0 (Tr_ wd0 pg0 3) V Qr Qt m_78 → Wk_ V → (if v = -1 then V 70 [rr 0, ii (a + 1), none] [] M2 else Tr_ wd0 pg0 3 80 [.inr (.inr 0), .inl 3, .inl (a + 1)] M2 (rv_ fun M5 => V 70 [rr 0, ii (a + 1), none] [] M5) Qt) → V 0 [rr 0, none, none] [] M := fun V Qr Qt hV hW z => b_78_0 (Tr_mono _) hV hW _ (Ex_le (d := 2) (by decide) x1 _ _ (rv_i (Ex_le (d := 1) (by decide) (x_74t ha1 e1 k2) _ _ (ri_i (by
              rw [if_neg (by decide), if_neg c8, e1]
              exact Ex_le (d := 2) (by decide) x2 _ _ (rv_i (Ex_le (d := 2) (by decide) xv _ _ (ri_i z))))))))
            have pq : ∀ (V : vv_) (Qr : qr_) (Qt : qt_), Cl_ wd0 (Tr_ wd0 pg0 4) V Qr Qt m_399 → Wk_ V → (if v < 0 then V 58 [rr 6, ii (a + 1), none] [] N2 else (0 ≤ a + 1 ∧ a + 1 < 1202) ∧ Tr_ wd0 pg0 4 236 [.inr (.inr 6), .inl 3, .inl (N2 150 (a + 1))] N2 (rv_ fun M4 => V 58 [rr 6, ii (a + 1), none] [] M4) Qt) → V 0 [rr 6, none, none] [] N1 := fun V Qr Qt hV hW z => b_399_0 (Tr_mono _) hV hW _ (Ex_le (d := 3) (by decide) q2 _ _ (ri_i (Ex_le (d := 1) (by decide) (c_227 h2.1) _ _ (ri_i (by
              rw [if_pos rfl, if_neg (by rw [h2.2.1.1.1, e77]; exact c8)]
              exact ⟨by omega, Ex_le (d := 1) (by decide) qv _ _ (ri_i z)⟩)))))
            rcases hv with e | e
            · refine ⟨M2, N2, h2, ⟨g2, k22, e77⟩, ⟨fx2, fq2⟩, fun V Qr Qt hV hW z => px V Qr Qt hV hW ?_, fun V Qr Qt hV hW z => pq V Qr Qt hV hW ?_⟩
              · rw [if_pos e]; exact z
              · rw [if_pos (by omega)]; exact z
            · have sm := ntX_s (M := M2) (k := 3) (t := a + 1) (by decide)
              refine ⟨ntX M2 3 (a + 1), nt_ N2 3 (N2 150 (a + 1)), CR_nt h2 (by decide) e150, ⟨gdB_c g2 (sm.1 75 (by decide)), by rw [sm.1 75 (by decide)]; exact k22, by rw [sm.2.1 77 (by decide)]; exact e77⟩, ⟨XT_nt fx2, QT_nt fq2⟩, fun V Qr Qt hV hW z => px V Qr Qt hV hW ?_, fun V Qr Qt hV hW z => pq V Qr Qt hV hW ?_⟩
              · rw [if_neg (by omega)]; exact x_80n (by omega) _ (by decide) _ _ (rv_i z)
              · rw [if_neg (by omega)]; exact ⟨by omega, Ex_le (d := 1) (by decide) c_236 _ _ (rv_i z)⟩
          obtain ⟨M3, N3, h3, ⟨g3, k3, e3⟩, ⟨fx3, fq3⟩, px, pq⟩ := st
          rcases jv_in h3 g3 k3 (by omega) with ⟨M', N', gx, gq, hR, rx, rq⟩ | ⟨M', gx, rx, gb⟩
          · exact .inl ⟨M', N', fun Qr Qt g => t_78 fun V hV hW => px V Qr Qt hV hW (gx V Qr Qt hV hW g), toQ fun Qr Qt g => t_399 fun V hV hW => pq V Qr Qt hV hW (gq V Qr Qt hV hW g), ⟨_, by omega, hR⟩, XT_tr fx3 rx, QT_tr fq3 rq⟩
          · refine .inr ⟨M', fun Qr Qt g => t_78 fun V hV hW => px V Qr Qt hV hW (gx V Qr Qt hV hW g), XT_tr fx3 rx, fun hb => ?_⟩
            obtain ⟨N', gq, hF, rq⟩ := gb hb
            exact ⟨N', QL_E (toQ fun Qr Qt g => t_399 fun V hV hW => pq V Qr Qt hV hW (gq V Qr Qt hV hW g)) (QEc_s hF.1), hF, QT_tr fq3 rq⟩
        · refine .inr ⟨_, fun Qr Qt g => t_78 fun V hV hW => b_78_0 (Tr_mono _) hV hW _ ?_, XT_bd (f := 2) (p := M1 76 (a + 1)) fx1, fun hb => ?_⟩
          · refine Ex_le (d := 2) (by decide) x1 _ _ (rv_i (Ex_le (d := 1) (by decide) (x_74t ha1 e1 k2) _ _ (ri_i ?_)))
            rw [if_neg (by decide), if_neg c8]
            exact Th_le (d := 2) (by decide) (x_73b ha1 e1 (.inr ⟨k2, by omega, rfl⟩)) _ _ g
          · have sp := sp_b (p := M1 76 (a + 1)) (f := 2) (CB_16 h1.1 hb) (by decide)
            refine ⟨_, QL_E (toQ (N' := bf_ N1 2 (M1 76 (a + 1))) fun Qr Qt g => t_399 fun V hV hW => b_399_0 (Tr_mono _) hV hW _ ?_) (QEc_s sp), FQc_b (CB_16 h1.1 hb) (by decide), QT_bf fq1⟩
            refine Ex_le (d := 3) (by decide) (c_233b h1.1 hb (.inr ⟨k2, by omega, rfl⟩)) _ _ (ri_i (Ex_le (d := 1) (by decide) (s_227 sp) _ _ (ri_i ?_)))
            rw [if_neg (by decide)]; exact g
    · refine .inr ⟨_, fun Qr Qt g => t_78 fun V hV hW => b_78_0 (Tr_mono _) hV hW _ ?_, XT_bd (f := 1) (p := M1 76 (a + 1)) fx1, fun hb => ?_⟩
      · refine Ex_le (d := 2) (by decide) x1 _ _ (rv_i (Ex_le (d := 1) (by decide) (x_74f ha1 e1 k2) _ _ (ri_i ?_)))
        rw [if_pos rfl, e1]
        refine Ex_le (d := 1) (by decide) (x_75c ha1) _ _ (rf_i ?_)
        rw [if_neg (by decide)]; exact g
      · have sp := sp_b (p := M1 76 (a + 1)) (f := 1) (CB_16 h1.1 hb) (by decide)
        refine ⟨_, QL_E (toQ (N' := bf_ N1 1 (M1 76 (a + 1))) fun Qr Qt g => t_399 fun V hV hW => b_399_0 (Tr_mono _) hV hW _ ?_) (QEc_s sp), FQc_b (CB_16 h1.1 hb) (by decide), QT_bf fq1⟩
        refine Ex_le (d := 3) (by decide) (c_233b h1.1 hb (.inl ⟨k2, rfl⟩)) _ _ (ri_i (Ex_le (d := 1) (by decide) (s_227 sp) _ _ (ri_i ?_)))
        rw [if_neg (by decide)]; exact g
  · have e12 : a = 1200 := by omega
    refine .inr ⟨_, fun Qr Qt g => t_78 fun V hV hW => b_78_0 (Tr_mono _) hV hW _ (Th_le (d := 2) (by decide) (x_73b ha h.1.2.2.1.1 (f := 2) (.inr ⟨hk, e12, rfl⟩)) _ _ g), XT_bd XT_rf, fun hb => ?_⟩
    have sp := sp_b (p := M 76 a) (f := 2) (CB_16 h.1 hb) (by decide)
    refine ⟨bf_ N 2 (M 76 a), QL_E (fun V Qr Qt hV hW z => q_in h.1 hk hV hW (c_228b h.1 hb (by decide) hk e12) (t_399 fun V' hV' hW' => b_399_0 (Tr_mono _) hV' hW' _ ?_)) (QEc_s sp), FQc_b (CB_16 h.1 hb) (by decide), QT_bf QT_rf⟩
    refine Ex_le (d := 3) (by decide) (s_233 sp) _ _ (ri_i (Ex_le (d := 1) (by decide) (s_227 sp) _ _ (ri_i ?_)))
    rw [if_neg (by decide)]; exact rv_i z
end INb
end T425_in
section T426_ln
/-! charts: a line (X 82, 83 | Q 401, 402) -/
section LNa
variable {b : Int} {M N M' N' M1 N1 M2 N2 : mm_} {a k f t x c w p i u v s l : Int}
theorem SDR_sm [Inhabited fz_] (h : SDR M u v) (hx : xsm M M') : SDR M' u v := by
  unfold SDR at *
  rw [hx.2.1 77 (by decide)]
  rcases h with h | h | ⟨h1, h2, h3⟩
  · exact .inl h
  · exact .inr (.inl h)
  · exact .inr (.inr ⟨h1, h2, hx.2.2 h3⟩)
theorem xsm_rf [Inhabited fz_] : xsm M M := ⟨fun _ _ => rfl, fun _ _ => rfl, fun h => h⟩
theorem xsm_tr [Inhabited fz_] (h : xsm M M1) (g : xsm M1 M2) : xsm M M2 := ⟨fun r hr => by rw [g.1 r hr, h.1 r hr], fun i hi => by rw [g.2.1 i hi, h.2.1 i hi], fun z => g.2.2 (h.2.2 z)⟩
theorem xsm_nx [Inhabited fz_] : xsm M (up_ M 0 75 v) := ⟨fun r hr => up_ne hr, fun i hi => upo (by rintro rfl; exact hi (by decide)), fun h => by rw [upo (by decide)]; exact h⟩
theorem xsm_XT [Inhabited fz_] (h : xsm M M') : XTc M M' := ⟨fun r hr => h.1 r (by rintro rfl; exact hr (by decide)), fun i hi => h.2.1 i (fun z => hi (by
  simp only [List.mem_cons, List.not_mem_nil, or_false] at z
  rcases z with rfl | rfl | rfl <;> decide))⟩
theorem qsm_rf [Inhabited fz_] : qsm N N := ⟨fun _ _ => rfl, fun _ _ => rfl⟩
theorem qsm_tr [Inhabited fz_] (h : qsm N N1) (g : qsm N1 N2) : qsm N N2 := ⟨fun r hr => by rw [g.1 r hr, h.1 r hr], fun i hi => by rw [g.2 i hi, h.2 i hi]⟩
theorem qsm_nx [Inhabited fz_] : qsm N (nx_ N) := ⟨fun r hr => up_ne hr, fun i hi => upo (by rintro rfl; exact hi (by decide))⟩
theorem qsm_QT [Inhabited fz_] (h : qsm N N') : QT9 N N' := ⟨fun r hr => h.1 r (by rintro rfl; exact hr (by decide)), fun i hi => h.2 i (fun z => hi (by
  simp only [List.mem_cons, List.not_mem_nil, or_false] at z
  rcases z with rfl | rfl | rfl <;> decide))⟩
/-- Q's party when stopped -/
theorem s_402 [Inhabited fz_] (h : sp_ N) : Ex_ 4 402 [.inr (.inr 6)] N [.inl (-1)] N := fun Qr Qt g => t_402 fun V hV hW => b_402_0 (Tr_mono _) hV hW _ (s_228 h _ _ (ri_i (by
  rw [if_pos rfl]
  refine s_233 h _ _ (ri_i (Ex_le (d := 1) (by decide) (s_227 h) _ _ (ri_i ?_)))
  rw [if_neg (by decide)]; exact g)))
/-- a side -/
theorem j_83 [Inhabited fz_] (h : CR b M N a) : (∃ u v M' N', Ex_ 3 83 [.inr (.inr 0)] M [.inl u] M' ∧ Ex_ 4 402 [.inr (.inr 6)] N [.inl v] N' ∧ CR b M' N' (a + 1) ∧ SDR M' u v ∧ xsm M M' ∧ qsm N N') ∨ (∃ f, 0 < f ∧ Th 3 83 [.inr (.inr 0)] M (bdX M f (M 76 a)) ∧ (b = 0 → ∃ v, Ex_ 4 402 [.inr (.inr 6)] N [.inl v] (bf_ N f (M 76 a)))) := by
  have ha := CB_a h.1
  have e := h.1.2.2.1.1
  by_cases k25 : M 75 a = 25
  · by_cases a1 : a < 1200
    · have nk := nk_of k25 (by decide) (by decide)
      refine .inl ⟨-2, -1, _, _, fun Qr Qt g => t_83 fun V hV hW => b_83_0 (Tr_mono _) hV hW _ (Ex_le (d := 1) (by decide) (x_74t ha e k25) _ _ (ri_i ?_)), fun Qr Qt g => t_402 fun V hV hW => b_402_0 (Tr_mono _) hV hW _ (c_228t h.1 (by decide) k25 a1 _ _ (ri_i ?_)), CR_nx h nk.1 nk.2 a1, .inl ⟨rfl, rfl⟩, xsm_nx, qsm_nx⟩
      · rw [if_neg (by decide)]; exact x_73 ha e k25 a1 _ _ (rv_i g)
      · rw [if_neg (by decide)]; exact g
    · have e12 : a = 1200 := by omega
      refine .inr ⟨2, by decide, fun Qr Qt g => t_83 fun V hV hW => b_83_0 (Tr_mono _) hV hW _ (Ex_le (d := 1) (by decide) (x_74t ha e k25) _ _ (ri_i ?_)), fun hb => ⟨-1, fun Qr Qt g => t_402 fun V hV hW => b_402_0 (Tr_mono _) hV hW _ (c_228b h.1 hb (by decide) k25 e12 _ _ (ri_i ?_))⟩⟩
      · rw [if_neg (by decide)]; exact x_73b ha e (.inr ⟨k25, e12, rfl⟩) _ _ g
      · rw [if_neg (by decide)]; exact g
  · rcases Bd_or h.1 100 with ⟨k1, a1⟩ | ⟨f, hf⟩
    · have nk := nk_of k1 (by decide) (by decide)
      have h1 := CR_nx h nk.1 nk.2 a1
      have x1 := x_73 ha e k1 a1
      have q1 := c_233 h.1 k1 a1
      have sx : xsm M (up_ M 0 75 (a + 1)) := xsm_nx
      have sq : qsm N (nx_ N) := qsm_nx
      have e150 : (nx_ N) 150 a = (up_ M 0 75 (a + 1)) 76 a := by unfold nx_; rw [up_ne (by decide), ← h.1.2.2.1.2, (CB_k h.1).2.1, h.1.2.2.1.2, up_ne (by decide)]
      have g1 : gdB (up_ M 0 75 (a + 1)) a := gdB_c h.1.2.1 (up_ne (by decide))
      have k11 : (up_ M 0 75 (a + 1)) 75 a = 100 := by rw [up_ne (by decide)]; exact k1
      generalize up_ M 0 75 (a + 1) = M1 at *
      generalize nx_ N = N1 at *
      obtain ⟨v, hv, xv, qv⟩ := j_79 h1 g1 k11
      have px : ∀ (V : vv_) (Qr : qr_) (Qt : qt_), Cl_ wd0 (Tr_ wd0 pg0 2) V Qr Qt m_83 → Wk_ V → (if v = -1 then Tr_ wd0 pg0 2 80 [.inr (.inr 0), .inl 4, .inl a] M1 (rv_ fun M4 => Qr [.inl v] M4) Qt else Qr [.inl v] M1) → V 0 [rr 0, none, none] [] M := fun V Qr Qt hV hW z => b_83_0 (Tr_mono _) hV hW _ (Ex_le (d := 1) (by decide) (x_74f ha e k25) _ _ (ri_i (by
        rw [if_pos rfl, e]
        exact x1 _ _ (rv_i (xv _ _ (ri_i z))))))
      have pq : ∀ (V : vv_) (Qr : qr_) (Qt : qt_), Cl_ wd0 (Tr_ wd0 pg0 3) V Qr Qt m_402 → Wk_ V → (if v < 0 then (0 ≤ a ∧ a < 1202) ∧ Tr_ wd0 pg0 3 236 [.inr (.inr 6), .inl 4, .inl (N1 150 a)] N1 (rv_ fun M5 => Qr [.inl v] M5) Qt else Qr [.inl v] N1) → V 0 [rr 6, none, none] [] N := fun V Qr Qt hV hW z => b_402_0 (Tr_mono _) hV hW _ (c_228f h.1 (by decide) k25 _ _ (ri_i (by
        rw [if_pos rfl]
        refine q1 _ _ (ri_i (Ex_le (d := 1) (by decide) (c_227 h1.1) _ _ (ri_i ?_)))
        rw [if_pos rfl]
        exact ⟨by omega, Ex_le (d := 1) (by decide) qv _ _ (ri_i z)⟩)))
      rcases hv with ev | ev
      · have sm := ntX_s (M := M1) (k := 4) (t := a) (by decide)
        refine .inl ⟨v, v, ntX M1 4 a, nt_ N1 4 (N1 150 a), fun Qr Qt g => t_83 fun V hV hW => px V Qr Qt hV hW ?_, fun Qr Qt g => t_402 fun V hV hW => pq V Qr Qt hV hW ?_, CR_nt h1 (by decide) e150, .inr (.inr ⟨ev, ev, ntX_92 (by decide)⟩), xsm_tr sx sm, qsm_tr sq ntQ_s⟩
        · rw [if_pos ev]; exact x_80n (by omega) _ (by decide) _ _ (rv_i g)
        · rw [if_pos (by omega)]; exact ⟨by omega, Ex_le (d := 1) (by decide) c_236 _ _ (rv_i g)⟩
      · refine .inl ⟨v, v, M1, N1, fun Qr Qt g => t_83 fun V hV hW => px V Qr Qt hV hW ?_, fun Qr Qt g => t_402 fun V hV hW => pq V Qr Qt hV hW ?_, h1, .inr (.inl ⟨rfl, ev.1, ev.2⟩), sx, sq⟩
        · rw [if_neg (by omega)]; exact g
        · rw [if_neg (by omega)]; exact g
    · refine .inr ⟨f, Bd_f hf, fun Qr Qt g => t_83 fun V hV hW => b_83_0 (Tr_mono _) hV hW _ (Ex_le (d := 1) (by decide) (x_74f ha e k25) _ _ (ri_i ?_)), fun hb => ⟨-1, fun Qr Qt g => t_402 fun V hV hW => b_402_0 (Tr_mono _) hV hW _ (c_228f h.1 (by decide) k25 _ _ (ri_i ?_))⟩⟩
      · rw [if_pos rfl]; exact x_73b ha e hf _ _ g
      · rw [if_pos rfl]
        refine c_233b h.1 hb hf _ _ (ri_i (Ex_le (d := 1) (by decide) (s_227 (sp_b (CB_16 h.1 hb) (Bd_f hf))) _ _ (ri_i ?_)))
        rw [if_neg (by decide)]; exact g
/-- a line more -/
theorem CR_ln [Inhabited fz_] (h : CR b M N a) (x0 : ∀ r, r ∉ [0, 46, 47, 48, 49, 50] → M' r = M r) (x1 : ∀ i, i ≠ 76 → M' 0 i = M 0 i) (x2 : M' 0 76 = M 0 76 + 1) (x3 : ∀ r, r ∈ [46, 47, 48, 49, 50] → ∀ i, i ≠ M 0 76 → M' r i = M r i) (y1 : M' 46 (M 0 76) = u ∧ M' 47 (M 0 76) = v ∧ M' 48 (M 0 76) = s ∧ M' 49 (M 0 76) = M 0 94 ∧ M' 50 (M 0 76) = M 0 95)
    (q0 : ∀ r, r ∉ [6, 256, 257, 258, 259, 260, 261] → N' r = N r) (q1 : ∀ i, i ≠ 171 → N' 6 i = N 6 i) (q2 : N' 6 171 = M 0 76 + 1) (q3 : ∀ r, r ∈ [256, 257, 258, 259] → ∀ i, i ≠ M 0 76 → N' r i = N r i) {u' v' : Int} (z1 : N' 256 (M 0 76) = u' ∧ N' 257 (M 0 76) = v' ∧ N' 258 (M 0 76) = s ∧ N' 259 (M 0 76) = M 0 79) (q4 : ∀ i, i < 3 * M 0 76 → N' 260 i = N 260 i ∧ N' 261 i = N 261 i) (q5 : ∀ j, 0 ≤ j → j < M 0 79 → N' 260 (3 * M 0 76 + j) = N 263 j ∧ N' 261 (3 * M 0 76 + j) = N 264 j)
    (h4 : M 0 76 < 40) (hu : SDR M u u') (hv : SDR M v v') : CR b M' N' a := by
  obtain ⟨h1, n1, n2, n3, n4, n5, n6⟩ := h
  obtain ⟨c1, ⟨c2, c3, c4⟩, c5⟩ := n1
  have e77 := x1 77 (by decide)
  have e78 := x1 78 (by decide)
  have e79 := x1 79 (by decide)
  have e92 := x1 92 (by decide)
  have sd : ∀ u v, SDR M u v → SDR M' u v := fun u v h => by unfold SDR at *; rw [e77, e92]; exact h
  have eo : OPN M' N' := by
    unfold OPN levQ rowQ at *
    rw [e78, e79, x1 94 (by decide), x1 95 (by decide), x0 51 (by decide), x0 52 (by decide), x0 53 (by decide), q0 263 (by decide), q0 264 (by decide), q0 266 (by decide)]
    exact n4
  refine ⟨CB_c h1 (fun r hr => x0 r ?_) (fun r hr => q0 r ?_) (x1 75 (by decide)) (q1 12 (by decide)) (q1 16 (by decide)) (fun _ => q1 13 (by decide)), ⟨?_, ⟨?_, ?_⟩, ?_⟩, ?_, ?_, eo, ?_, ?_⟩
  · simp only [List.mem_cons, List.not_mem_nil, or_false] at hr
    rcases hr with rfl | rfl | rfl | rfl | rfl <;> decide
  · simp only [List.mem_cons, List.not_mem_nil, or_false] at hr
    rcases hr with rfl | rfl | rfl <;> decide
  · rw [e77, q1 170 (by decide)]; exact c1
  · rw [q2, x2]
  · rw [x2]; omega
  · rw [e78, e79, q1 172 (by decide), q1 186 (by decide)]; exact c5
  · unfold INS gdB at *; rw [e77, x0 44 (by decide), x0 45 (by decide), x0 75 (by decide), q0 254 (by decide), q0 255 (by decide), q0 151 (by decide)]; exact n2
  · intro l l0 l1
    rw [x2] at l1
    by_cases e : l = M 0 76
    · subst e
      obtain ⟨⟨o1, o2⟩, o3⟩ := n4
      unfold LIN
      rw [y1.1, y1.2.1, y1.2.2.1, y1.2.2.2.1, y1.2.2.2.2, z1.1, z1.2.1, z1.2.2.1, z1.2.2.2, e78, x0 52 (by decide), x0 53 (by decide)]
      have lv : ∀ j, 0 ≤ j → j ≤ M 0 79 → lvL N' (M 0 76) j = levQ N j ∧ rwL N' (M 0 76) j = rowQ N j := fun j j0 j1 => by
        unfold lvL rwL levQ rowQ
        by_cases z : j = 0
        · rw [if_pos z, if_pos z, if_pos z, if_pos z]; exact ⟨rfl, rfl⟩
        · rw [if_neg z, if_neg z, if_neg z, if_neg z]; exact q5 (j - 1) (by omega) (by omega)
      refine ⟨sd _ _ hu, sd _ _ hv, rfl, by omega, ?_, ?_, fun j j0 j1 => ?_⟩
      · rw [(lv _ (by omega) (by omega)).1]; exact o1
      · rw [(lv _ (by omega) (by omega)).2]; exact o2
      · rw [(q5 j j0 j1).1, (lv j j0 (by omega)).1, (lv j j0 (by omega)).2]
        have := o3 j j0 j1
        exact ⟨this.1, this.2.1, this.2.2.1⟩
    · have hl := n3 l l0 (by omega)
      have hl' := hl
      unfold LIN at hl ⊢
      rw [x3 46 (by decide) l e, x3 47 (by decide) l e, x3 48 (by decide) l e, x3 49 (by decide) l e, x3 50 (by decide) l e, q3 256 (by decide) l e, q3 257 (by decide) l e, q3 258 (by decide) l e, q3 259 (by decide) l e, e78, x0 52 (by decide), x0 53 (by decide)]
      have d3 := hl.2.2.2.1
      have lv : ∀ j, 0 ≤ j → j ≤ N 259 l → lvL N' l j = lvL N l j ∧ rwL N' l j = rwL N l j := fun j j0 j1 => by
        unfold lvL rwL
        by_cases z : j = 0
        · rw [if_pos z, if_pos z, if_pos z, if_pos z]; exact ⟨rfl, rfl⟩
        · rw [if_neg z, if_neg z, if_neg z, if_neg z]; exact q4 _ (by omega)
      refine ⟨sd _ _ hl.1, sd _ _ hl.2.1, hl.2.2.1, hl.2.2.2.1, ?_, ?_, fun j j0 j1 => ?_⟩
      · rw [(lv _ (by omega) (by omega)).1]; exact hl.2.2.2.2.1
      · rw [(lv _ (by omega) (by omega)).2]; exact hl.2.2.2.2.2.1
      · rw [(q4 (3 * l + j) (by omega)).1, (lv j j0 (by omega)).1, (lv j j0 (by omega)).2]
        exact hl.2.2.2.2.2.2 j j0 j1
  · unfold ALT at *; rw [e78, x0 51 (by decide), q0 262 (by decide), q0 266 (by decide)]; exact n5
  · unfold NTE at *; rw [e92, x1 93 (by decide), q1 13 (by decide), q1 14 (by decide)]; exact n6
end LNa
end T426_ln
section T427_ln
/-! charts: a line whole (X 82 | Q 401) -/
section LNb
variable {b : Int} {M N M' N' M1 N1 M2 N2 : mm_} {a k f t x c w p i u v s l : Int}
/-- the rows that a line stands in are kept -/
theorem q_154 [Inhabited fz_] {x1 x2 x3 x4 x5 : Int} (hl : N 6 171 = l) (h0 : 0 ≤ l ∧ l < 40) (hw : N 6 186 = w) (w3 : w ≤ 3) : ∀ (n : Nat) (j : Int) (N1 : mm_), w - j = n → 0 ≤ j → (∀ r, r ∉ [260, 261] → N1 r = N r) → (∀ i, i < 3 * l → N1 260 i = N 260 i ∧ N1 261 i = N 261 i) → (∀ i, 0 ≤ i → i < j → N1 260 (3 * l + i) = N 263 i ∧ N1 261 (3 * l + i) = N 264 i) → ∃ N', (∀ (V : vv_) (Qr : qr_) (Qt : qt_), Cl_ wd0 (Tr_ wd0 pg0 4) V Qr Qt m_401 → Wk_ V → Qr [] (up_ N' 6 171 (l + 1)) → V 154 [rr 6, ii x1, ii x2, ii x3, ii x4, ii x5, ii j] [] N1) ∧ (∀ r, r ∉ [260, 261] → N' r = N r) ∧ (∀ i, i < 3 * l → N' 260 i = N 260 i ∧ N' 261 i = N 261 i) ∧ (∀ i, 0 ≤ i → i < w → N' 260 (3 * l + i) = N 263 i ∧ N' 261 (3 * l + i) = N 264 i) := by
  intro n
  have w1 : w32 (l + 1) = l + 1 := w32_id (by omega) (by omega)
  have w3l : w32 (3 * l) = 3 * l := w32_id (by omega) (by omega)
  induction n with
  | zero =>
    intro j N1 hj j0 f1 f2 f3
    refine ⟨N1, fun V Qr Qt hV hW g => b_401_154 (Tr_mono _) hV hW _ _ _ _ _ _ _ ?_, f1, f2, fun i i0 i1 => f3 i i0 (by omega)⟩
    rw [if_neg (by rw [f1 6 (by decide), hw]; omega), f1 6 (by decide), hl, w1]
    exact g
  | succ n ih =>
    intro j N1 hj j0 f1 f2 f3
    have wj : w32 (j + 1) = j + 1 := w32_id (by omega) (by omega)
    have wl : w32 (3 * l + j) = 3 * l + j := w32_id (by omega) (by omega)
    have F2 : ∀ i, i < 3 * l → (up_ (up_ N1 260 (3 * l + j) (N1 263 j)) 261 (3 * l + j) (N1 264 j)) 260 i = N 260 i ∧ (up_ (up_ N1 260 (3 * l + j) (N1 263 j)) 261 (3 * l + j) (N1 264 j)) 261 i = N 261 i := fun i hi => by
      rw [up_ne (by decide), upo (by omega), upo (by omega), up_ne (by decide)]; exact f2 i hi
    have F3 : ∀ i, 0 ≤ i → i < j + 1 → (up_ (up_ N1 260 (3 * l + j) (N1 263 j)) 261 (3 * l + j) (N1 264 j)) 260 (3 * l + i) = N 263 i ∧ (up_ (up_ N1 260 (3 * l + j) (N1 263 j)) 261 (3 * l + j) (N1 264 j)) 261 (3 * l + i) = N 264 i := fun i i0 i1 => by
      rw [up_ne (r' := 260) (by decide)]
      by_cases e : i = j
      · subst e; rw [up_at, up_at, f1 263 (by decide), f1 264 (by decide)]; exact ⟨rfl, rfl⟩
      · rw [upo (by omega), upo (by omega), up_ne (by decide)]; exact f3 i i0 (by omega)
    obtain ⟨N', g1, g2, g3, g4⟩ := ih (j + 1) (up_ (up_ N1 260 (3 * l + j) (N1 263 j)) 261 (3 * l + j) (N1 264 j)) (by omega) (by omega) (fun r hr => by rw [up_ne (by rintro rfl; exact hr (by decide)), up_ne (by rintro rfl; exact hr (by decide))]; exact f1 r hr) F2 F3
    refine ⟨N', fun V Qr Qt hV hW g => b_401_154 (Tr_mono _) hV hW _ _ _ _ _ _ _ ?_, g2, g3, g4⟩
    rw [if_pos (by rw [f1 6 (by decide), hw]; omega), f1 6 (by decide), hl, w3l, wl, wj]
    exact ⟨by omega, by omega, by omega, by omega, g1 V Qr Qt hV hW g⟩
/-- a line from its last sign on -/
theorem jv_ln [Inhabited fz_] (h : CR b M N a) (h4 : M 0 76 < 40) {u' v' x3 y1 y4 : Int} (hu : SDR M u u') (hv : SDR M v v') : JV 4 m_82 71 [rr 0, ii u, ii v, ii x3, ii s] 4 m_401 93 [rr 6, ii y1, ii u', ii v', ii y4, ii s, none] b M N (fun M' N' => CR b M' N' (a + 1)) := by
  have ha := CB_a h.1
  rcases Bd_or h.1 259 with ⟨k1, a1⟩ | ⟨f, hf⟩
  · have nk := nk_of k1 (by decide) (by decide)
    have h1 := CR_nx h nk.1 nk.2 a1
    have x1 := x_76 (c := 59) ha h.1.2.2.1.1 (by decide) k1 a1
    have q1 := c_244 h.1 (x := 59) (by decide) k1 a1
    have sx : xsm M (up_ M 0 75 (a + 1)) := xsm_nx
    have sq : qsm N (nx_ N) := qsm_nx
    generalize up_ M 0 75 (a + 1) = M1 at *
    generalize nx_ N = N1 at *
    have fx := xsm_XT sx
    have fq := qsm_QT sq
    have hu1 := SDR_sm hu sx
    have hv1 := SDR_sm hv sx
    obtain ⟨_, ⟨c1, c2, c3⟩, _, ⟨c4, c5, c6⟩⟩ := h1.2.1
    have e76 : M1 0 76 = M 0 76 := sx.2.1 76 (by decide)
    have l40 : 0 ≤ M1 0 76 ∧ M1 0 76 < 40 := by omega
    have c1' : N1 6 171 = M1 0 76 := c1
    have c4' : N1 6 186 = M1 0 79 := c4
    have f256 : ∀ r, r ∉ [256, 257, 258, 259] → (up_ (up_ (up_ (up_ N1 256 (N1 6 171) u') 257 (N1 6 171) v') 258 (N1 6 171) s) 259 (N1 6 171) (N1 6 186)) r = N1 r := fun r hr => by rw [up_ne (by rintro rfl; exact hr (by decide)), up_ne (by rintro rfl; exact hr (by decide)), up_ne (by rintro rfl; exact hr (by decide)), up_ne (by rintro rfl; exact hr (by decide))]
    obtain ⟨N', g1, g2, g3, g4⟩ := q_154 (N := up_ (up_ (up_ (up_ N1 256 (N1 6 171) u') 257 (N1 6 171) v') 258 (N1 6 171) s) 259 (N1 6 171) (N1 6 186)) (l := M1 0 76) (w := M1 0 79) (x1 := y1) (x2 := u') (x3 := v') (x4 := y4) (x5 := s) (by rw [f256 6 (by decide)]; exact c1) (by omega) (by rw [f256 6 (by decide)]; exact c4) c6 (M1 0 79).toNat 0 _ (by omega) (by omega) (fun _ _ => rfl) (fun _ _ => ⟨rfl, rfl⟩) (fun i i0 i1 => by omega)
    have w1 : w32 (M1 0 76 + 1) = M1 0 76 + 1 := w32_id (by omega) (by omega)
    refine .inl ⟨up_ (up_ (up_ (up_ (up_ (up_ M1 46 (M1 0 76) u) 47 (M1 0 76) v) 48 (M1 0 76) s) 49 (M1 0 76) (M1 0 94)) 50 (M1 0 76) (M1 0 95)) 0 76 (M1 0 76 + 1), up_ N' 6 171 (M1 0 76 + 1), fun V Qr Qt hV hW g => b_82_71 (Tr_mono _) hV hW _ _ _ _ _ (Ex_le (d := 3) (by decide) x1 _ _ (rv_i ?_)), fun V Qr Qt hV hW g => b_401_93 (Tr_mono _) hV hW _ _ _ _ _ _ (Ex_le (d := 3) (by decide) q1 _ _ (rv_i (Ex_le (d := 1) (by decide) (c_227 h1.1) _ _ (ri_i ?_)))), ?_, ?_, ?_⟩
    · rw [w1]; exact ⟨l40, l40, l40, l40, l40, g⟩
    · rw [if_pos rfl]
      have l41 : 0 ≤ N1 6 171 ∧ N1 6 171 < 40 := by rw [c1]; exact l40
      exact ⟨l41, l41, l41, l41, g1 V Qr Qt hV hW g⟩
    · have n6 : ∀ r, r ∉ [6, 260, 261] → (up_ N' 6 171 (M1 0 76 + 1)) r = (up_ (up_ (up_ (up_ N1 256 (N1 6 171) u') 257 (N1 6 171) v') 258 (N1 6 171) s) 259 (N1 6 171) (N1 6 186)) r := fun r hr => by
        simp only [List.mem_cons, List.not_mem_nil, or_false, not_or] at hr
        rw [up_ne hr.1]
        exact g2 r (by simp only [List.mem_cons, List.not_mem_nil, or_false, not_or]; exact hr.2)
      refine CR_ln (u := u) (v := v) (s := s) (u' := u') (v' := v') h1 (fun r hr => ?_) (fun i hi => ?_) ?_ (fun r hr i hi => ?_) ⟨?_, ?_, ?_, ?_, ?_⟩ (fun r hr => ?_) (fun i hi => ?_) ?_ (fun r hr i hi => ?_) ⟨?_, ?_, ?_, ?_⟩ (fun i hi => ?_) (fun j j0 j1 => ?_) l40.2 hu1 hv1
      · rw [up_ne (by rintro rfl; exact hr (by decide)), up_ne (by rintro rfl; exact hr (by decide)), up_ne (by rintro rfl; exact hr (by decide)), up_ne (by rintro rfl; exact hr (by decide)), up_ne (by rintro rfl; exact hr (by decide)), up_ne (by rintro rfl; exact hr (by decide))]
      · rw [upo hi, up_ne (by decide), up_ne (by decide), up_ne (by decide), up_ne (by decide), up_ne (by decide)]
      · rw [up_at]
      · simp only [List.mem_cons, List.not_mem_nil, or_false] at hr
        have off : ∀ {R : mm_} {r r' : Nat} {x : Int}, up_ R r' (M1 0 76) x r i = R r i := fun {R r r' x} => by
          rw [ua_]; split
          · rename_i e; first | rw [if_neg hi, e] | rw [e]
          · rfl
        rw [up_ne (by rcases hr with rfl | rfl | rfl | rfl | rfl <;> decide), off, off, off, off, off]
      · rw [up_ne (by decide), up_ne (by decide), up_ne (by decide), up_ne (by decide), up_ne (by decide), up_at]
      · rw [up_ne (by decide), up_ne (by decide), up_ne (by decide), up_ne (by decide), up_at]
      · rw [up_ne (by decide), up_ne (by decide), up_ne (by decide), up_at]
      · rw [up_ne (by decide), up_ne (by decide), up_at]
      · rw [up_ne (by decide), up_at]
      · simp only [List.mem_cons, List.not_mem_nil, or_false, not_or] at hr
        rw [n6 r (by simp only [List.mem_cons, List.not_mem_nil, or_false, not_or]; exact ⟨hr.1, hr.2.2.2.2.2⟩)]
        exact f256 r (by simp only [List.mem_cons, List.not_mem_nil, or_false, not_or]; exact ⟨hr.2.1, hr.2.2.1, hr.2.2.2.1, hr.2.2.2.2.1⟩)
      · rw [upo hi, g2 6 (by decide), f256 6 (by decide)]
      · rw [up_at]
      · simp only [List.mem_cons, List.not_mem_nil, or_false] at hr
        rw [n6 r (by rcases hr with rfl | rfl | rfl | rfl <;> decide), c1]
        have off : ∀ {R : mm_} {r r' : Nat} {x : Int}, up_ R r' (M1 0 76) x r i = R r i := fun {R r r' x} => by
          rw [ua_]; split
          · rename_i e; first | rw [if_neg hi, e] | rw [e]
          · rfl
        rw [off, off, off, off]
      · rw [n6 256 (by decide), c1, up_ne (by decide), up_ne (by decide), up_ne (by decide), up_at]
      · rw [n6 257 (by decide), c1, up_ne (by decide), up_ne (by decide), up_at]
      · rw [n6 258 (by decide), c1, up_ne (by decide), up_at]
      · rw [n6 259 (by decide), c1, up_at, c4]
      · rw [up_ne (by decide), up_ne (by decide)]
        have := g3 i hi
        rw [f256 260 (by decide), f256 261 (by decide)] at this
        exact this
      · rw [up_ne (by decide), up_ne (by decide)]
        have := g4 j j0 j1
        rw [f256 263 (by decide), f256 264 (by decide)] at this
        exact this
    · exact XT_0 (XT_r (XT_r (XT_r (XT_r (XT_r fx (by decide) (by decide)) (by decide) (by decide)) (by decide) (by decide)) (by decide) (by decide)) (by decide) (by decide)) (by decide)
    · refine QT_6 ⟨fun r hr => ?_, fun i hi => ?_⟩ (by decide)
      · rw [g2 r (fun z => hr (by simp only [List.mem_cons, List.not_mem_nil, or_false] at z; rcases z with rfl | rfl <;> decide)), f256 r (fun z => hr (by simp only [List.mem_cons, List.not_mem_nil, or_false] at z; rcases z with rfl | rfl | rfl | rfl <;> decide))]
        exact fq.1 r hr
      · rw [g2 6 (by decide), f256 6 (by decide)]; exact fq.2 i hi
  · refine .inr ⟨bdX M f (M 76 a), fun V Qr Qt hV hW g => b_82_71 (Tr_mono _) hV hW _ _ _ _ _ ?_, XT_bd XT_rf, fun hb => ?_⟩
    · exact Th_le (d := 3) (by decide) (x_76b (c := 59) ha h.1.2.2.1.1 (by decide) hf) _ _ g
    · have sp := sp_b (p := M 76 a) (CB_16 h.1 hb) (Bd_f hf)
      refine ⟨bf_ N f (M 76 a), fun V Qr Qt hV hW g => b_401_93 (Tr_mono _) hV hW _ _ _ _ _ _ ?_, FQc_b (CB_16 h.1 hb) (Bd_f hf), QT_bf QT_rf⟩
      refine Ex_le (d := 3) (by decide) (c_244b h.1 hb (x := 59) (by decide) hf) _ _ (rv_i (Ex_le (d := 1) (by decide) (s_227 sp) _ _ (ri_i ?_)))
      rw [if_neg (by decide)]; exact g
end LNb
end T427_ln
section T428_ln
/-! charts: a line (X 82 | Q 401), all of it -/
section LNc
variable {b : Int} {M N M' N' M1 N1 M2 N2 : mm_} {a k f t x c w p i u v s l : Int}
/-- Q's line once it has stopped, by where -/
theorem s_401a [Inhabited fz_] (h : sp_ N) {V : vv_} {Qr : qr_} {Qt : qt_} {y : Int} (g : Qr [] N) (C : Int → Int → mm_ → Prop) : Tr_ wd0 pg0 4 233 [.inr (.inr 6)] N (ri_ fun v3 M5 => Tr_ wd0 pg0 4 227 [.inr (.inr 6)] M5 (ri_ fun v4 M6 => if v4 = 0 then C v3 v4 M6 else Qr [] M6) Qt) Qt := Ex_le (d := 3) (by decide) (s_233 h) _ _ (ri_i (Ex_le (d := 1) (by decide) (s_227 h) _ _ (ri_i (by rw [if_neg (by decide)]; exact g))))
theorem j_82 [Inhabited fz_] (h : CR b M N a) (hS : SGP M N) (hk : M 75 a = 100 ∨ M 75 a = 25) : JO 5 82 [.inr (.inr 0)] b M N (fun M' N' => ∃ a', a < a' ∧ CR b M' N' a') := by
  have ha := CB_a h.1
  have e := h.1.2.2.1.1
  have toQ : ∀ {N'}, Ex_ 5 401 [.inr (.inr 6)] N [] N' → QL N N' := fun g V Qr Qt hV hW z => q_ln h.1 hk hV hW (g _ _ (rv_i z))
  have c171 := h.2.1.2.1.1
  have i9 := (CB_k h.1).2.2
  by_cases c40 : M 0 76 = 40
  · refine .inr ⟨bdX M 2 (M 76 a), fun Qr Qt g => t_82 fun V hV hW => b_82_0 (Tr_mono _) hV hW _ ?_, XT_bd XT_rf, fun hb => ?_⟩
    · rw [if_pos c40, e]
      refine Ex_le (d := 1) (by decide) (x_75c ha) _ _ (rf_i ?_)
      rw [if_neg (by decide)]; exact g
    · have sp := sp_b (p := M 76 a) (f := 2) (CB_16 h.1 hb) (by decide)
      refine ⟨_, QL_E (toQ (N' := bf_ N 2 (M 76 a)) fun Qr Qt g => t_401 fun V hV hW => b_401_0 (Tr_mono _) hV hW _ ⟨i9, ?_⟩) (QEc_s sp), FQc_b (CB_16 h.1 hb) (by decide), QT_bf QT_rf⟩
      rw [if_pos (by omega), (CB_k h.1).2.1]
      exact Ex_le (d := 1) (by decide) (c_231 h.1 hb) _ _ (rv_i g)
  have l40 : M 0 76 < 40 := by have := h.2.1.2.1; omega
  have nq : ¬ (N 6 171 = 40) := by omega
  -- the left side
  rcases j_83 h with ⟨u, u', M1, N1, xa, qa, h1, sd1, sx1, sq1⟩ | ⟨f, f0, xa, qa⟩
  · have fx1 := xsm_XT sx1
    have fq1 := qsm_QT sq1
    have ha1 := CB_a h1.1
    have e1 := h1.1.2.2.1.1
    -- the arrow
    rcases Bd_or h1.1 114 with ⟨k2, a2⟩ | ⟨f, hf⟩
    · have nk2 := nk_of k2 (by decide) (by decide)
      have h2 := CR_nx h1 nk2.1 nk2.2 a2
      have x2 := x_73 ha1 e1 k2 a2
      have q2 := c_244 h1.1 (x := 260) (by decide) k2 a2
      have sx2 : xsm M1 (up_ M1 0 75 (a + 1 + 1)) := xsm_nx
      have sq2 : qsm N1 (nx_ N1) := qsm_nx
      generalize up_ M1 0 75 (a + 1 + 1) = M2 at *
      generalize nx_ N1 = N2 at *
      have fx2 := XT_tr fx1 (xsm_XT sx2)
      have fq2 := QT_tr fq1 (qsm_QT sq2)
      have sd2 := SDR_sm sd1 sx2
      -- the right side
      rcases j_83 h2 with ⟨v, v', M3, N3, xb, qb, h3, sd3, sx3, sq3⟩ | ⟨f, f0, xb, qb⟩
      · have fx3 := XT_tr fx2 (xsm_XT sx3)
        have fq3 := QT_tr fq2 (qsm_QT sq3)
        have sd2' := SDR_sm sd2 sx3
        have ha3 := CB_a h3.1
        have e3 := h3.1.2.2.1.1
        rcases Bd_or h3.1 258 with ⟨k4, a4⟩ | ⟨f, hf⟩
        · have nk4 := nk_of k4 (by decide) (by decide)
          have h4 := CR_nx h3 nk4.1 nk4.2 a4
          have x4 := x_76 (c := 58) ha3 e3 (by decide) k4 a4
          have q4 := c_244 h3.1 (x := 58) (by decide) k4 a4
          have sx4 : xsm M3 (up_ M3 0 75 (a + 1 + 1 + 1 + 1)) := xsm_nx
          have sq4 : qsm N3 (nx_ N3) := qsm_nx
          generalize up_ M3 0 75 (a + 1 + 1 + 1 + 1) = M4 at *
          generalize nx_ N3 = N4 at *
          have fx4 := XT_tr fx3 (xsm_XT sx4)
          have fq4 := QT_tr fq3 (qsm_QT sq4)
          have sd4a := SDR_sm sd2' sx4
          have sd4b := SDR_sm sd3 sx4
          have ha4 := CB_a h4.1
          have e4 := h4.1.2.2.1.1
          rcases Bd_or h4.1 100 with ⟨k5, a5⟩ | ⟨f, hf⟩
          · have nk5 := nk_of k5 (by decide) (by decide)
            have h5 := CR_nx h4 nk5.1 nk5.2 a5
            have x5 := x_73 ha4 e4 k5 a5
            have q5 := c_233 h4.1 k5 a5
            have sx5 : xsm M4 (up_ M4 0 75 (a + 1 + 1 + 1 + 1 + 1)) := xsm_nx
            have sq5 : qsm N4 (nx_ N4) := qsm_nx
            have g5 : gdB (up_ M4 0 75 (a + 1 + 1 + 1 + 1 + 1)) (a + 1 + 1 + 1 + 1) := gdB_c h4.1.2.1 (up_ne (by decide))
            have k55 : (up_ M4 0 75 (a + 1 + 1 + 1 + 1 + 1)) 75 (a + 1 + 1 + 1 + 1) = 100 := by rw [up_ne (by decide)]; exact k5
            have e150 : (nx_ N4) 150 (a + 1 + 1 + 1 + 1) = (up_ M4 0 75 (a + 1 + 1 + 1 + 1 + 1)) 76 (a + 1 + 1 + 1 + 1) := by unfold nx_; rw [up_ne (by decide), ← h4.1.2.2.1.2, (CB_k h4.1).2.1, h4.1.2.2.1.2, up_ne (by decide)]
            generalize up_ M4 0 75 (a + 1 + 1 + 1 + 1 + 1) = M5 at *
            generalize nx_ N4 = N5 at *
            have fx5 := XT_tr fx4 (xsm_XT sx5)
            have fq5 := QT_tr fq4 (qsm_QT sq5)
            have sd5a := SDR_sm sd4a sx5
            have sd5b := SDR_sm sd4b sx5
            have S5 := SGP_c hS fx5 fq5
            obtain ⟨s, s0, xs, qs⟩ := j_84 S5 h5.1.1 g5 k55
            have l5 : M5 0 76 = M 0 76 := by rw [sx5.2.1 76 (by decide), sx4.2.1 76 (by decide), sx3.2.1 76 (by decide), sx2.2.1 76 (by decide), sx1.2.1 76 (by decide)]
            have px : ∀ (V : vv_) (Qr : qr_) (Qt : qt_), Cl_ wd0 (Tr_ wd0 pg0 4) V Qr Qt m_82 → Wk_ V → (if s = -1 then Tr_ wd0 pg0 4 80 [.inr (.inr 0), .inl 4, .inl (a + 1 + 1 + 1 + 1)] M5 (rv_ fun M7 => V 71 [rr 0, ii u, ii v, ii (a + 1 + 1 + 1 + 1), ii s] [] M7) Qt else V 71 [rr 0, ii u, ii v, ii (a + 1 + 1 + 1 + 1), ii s] [] M5) → V 0 [rr 0, none, none, none, none] [] M := fun V Qr Qt hV hW z => b_82_0 (Tr_mono _) hV hW _ (by
              rw [if_neg c40]
              refine Ex_le (d := 3) (by decide) xa _ _ (ri_i (Ex_le (d := 2) (by decide) x2 _ _ (rv_i (Ex_le (d := 3) (by decide) xb _ _ (ri_i (Ex_le (d := 3) (by decide) x4 _ _ (rv_i (Ex_le (d := 2) (by decide) x5 _ _ (rv_i ?_)))))))))
              rw [e4]
              exact Ex_le (d := 1) (by decide) xs _ _ (ri_i z))
            have pq : ∀ (V : vv_) (Qr : qr_) (Qt : qt_), Cl_ wd0 (Tr_ wd0 pg0 4) V Qr Qt m_401 → Wk_ V → (if s < 0 then (0 ≤ a + 1 + 1 + 1 + 1 ∧ a + 1 + 1 + 1 + 1 < 1202) ∧ Tr_ wd0 pg0 4 236 [.inr (.inr 6), .inl 4, .inl (N5 150 (a + 1 + 1 + 1 + 1))] N5 (rv_ fun M8 => V 93 [rr 6, ii (N 150 (N 6 12)), ii u', ii v', ii (a + 1 + 1 + 1 + 1), ii s, none] [] M8) Qt else V 93 [rr 6, ii (N 150 (N 6 12)), ii u', ii v', ii (a + 1 + 1 + 1 + 1), ii s, none] [] N5) → V 0 [rr 6, none, none, none, none, none, none] [] N := fun V Qr Qt hV hW z => b_401_0 (Tr_mono _) hV hW _ ⟨i9, by
              rw [if_neg nq]
              refine qa _ _ (ri_i (Ex_le (d := 3) (by decide) q2 _ _ (rv_i (qb _ _ (ri_i (Ex_le (d := 3) (by decide) q4 _ _ (rv_i (Ex_le (d := 3) (by decide) q5 _ _ (ri_i (Ex_le (d := 1) (by decide) (c_227 h5.1) _ _ (ri_i ?_)))))))))))
              rw [if_pos rfl]
              exact ⟨by omega, Ex_le (d := 1) (by decide) qs _ _ (ri_i z)⟩⟩
            have st : ∃ M6 N6, CR b M6 N6 (a + 1 + 1 + 1 + 1 + 1) ∧ (SDR M6 u u' ∧ SDR M6 v v' ∧ M6 0 76 = M 0 76) ∧ (XTc M M6 ∧ QT9 N N6) ∧ (∀ (V : vv_) (Qr : qr_) (Qt : qt_), Cl_ wd0 (Tr_ wd0 pg0 4) V Qr Qt m_82 → Wk_ V → V 71 [rr 0, ii u, ii v, ii (a + 1 + 1 + 1 + 1), ii s] [] M6 → V 0 [rr 0, none, none, none, none] [] M) ∧ (∀ (V : vv_) (Qr : qr_) (Qt : qt_), Cl_ wd0 (Tr_ wd0 pg0 4) V Qr Qt m_401 → Wk_ V → V 93 [rr 6, ii (N 150 (N 6 12)), ii u', ii v', ii (a + 1 + 1 + 1 + 1), ii s, none] [] N6 → V 0 [rr 6, none, none, none, none, none, none] [] N) := by
              by_cases es : s = -1
              · have sm := ntX_s (M := M5) (k := 4) (t := a + 1 + 1 + 1 + 1) (by decide)
                refine ⟨ntX M5 4 (a + 1 + 1 + 1 + 1), nt_ N5 4 (N5 150 (a + 1 + 1 + 1 + 1)), CR_nt h5 (by decide) e150, ⟨SDR_sm sd5a sm, SDR_sm sd5b sm, by rw [sm.2.1 76 (by decide)]; exact l5⟩, ⟨XT_nt fx5, QT_nt fq5⟩, fun V Qr Qt hV hW z => px V Qr Qt hV hW ?_, fun V Qr Qt hV hW z => pq V Qr Qt hV hW ?_⟩
                · rw [if_pos es]; exact x_80n (by omega) _ (by decide) _ _ (rv_i z)
                · rw [if_pos (by omega)]; exact ⟨by omega, Ex_le (d := 1) (by decide) c_236 _ _ (rv_i z)⟩
              · refine ⟨M5, N5, h5, ⟨sd5a, sd5b, l5⟩, ⟨fx5, fq5⟩, fun V Qr Qt hV hW z => px V Qr Qt hV hW ?_, fun V Qr Qt hV hW z => pq V Qr Qt hV hW ?_⟩
                · rw [if_neg es]; exact z
                · rw [if_neg (by omega)]; exact z
            obtain ⟨M6, N6, h6, ⟨d1, d2, d3⟩, ⟨fx6, fq6⟩, px, pq⟩ := st
            rcases jv_ln (x3 := a + 1 + 1 + 1 + 1) (y1 := N 150 (N 6 12)) (y4 := a + 1 + 1 + 1 + 1) (s := s) h6 (by omega) d1 d2 with ⟨M', N', gx, gq, hR, rx, rq⟩ | ⟨M', gx, rx, gb⟩
            · exact .inl ⟨M', N', fun Qr Qt g => t_82 fun V hV hW => px V Qr Qt hV hW (gx V Qr Qt hV hW g), toQ fun Qr Qt g => t_401 fun V hV hW => pq V Qr Qt hV hW (gq V Qr Qt hV hW g), ⟨_, by omega, hR⟩, XT_tr fx6 rx, QT_tr fq6 rq⟩
            · refine .inr ⟨M', fun Qr Qt g => t_82 fun V hV hW => px V Qr Qt hV hW (gx V Qr Qt hV hW g), XT_tr fx6 rx, fun hb => ?_⟩
              obtain ⟨N', gq, hF, rq⟩ := gb hb
              exact ⟨N', QL_E (toQ fun Qr Qt g => t_401 fun V hV hW => pq V Qr Qt hV hW (gq V Qr Qt hV hW g)) (QEc_s hF.1), hF, QT_tr fq6 rq⟩
          · refine .inr ⟨bdX M4 f (M4 76 (a + 1 + 1 + 1 + 1)), fun Qr Qt g => t_82 fun V hV hW => b_82_0 (Tr_mono _) hV hW _ ?_, XT_bd fx4, fun hb => ?_⟩
            · rw [if_neg c40]
              exact Ex_le (d := 3) (by decide) xa _ _ (ri_i (Ex_le (d := 2) (by decide) x2 _ _ (rv_i (Ex_le (d := 3) (by decide) xb _ _ (ri_i (Ex_le (d := 3) (by decide) x4 _ _ (rv_i (Th_le (d := 2) (by decide) (x_73b ha4 e4 hf) _ _ g))))))))
            · have sp := sp_b (p := M4 76 (a + 1 + 1 + 1 + 1)) (CB_16 h4.1 hb) (Bd_f hf)
              refine ⟨_, QL_E (toQ (N' := bf_ N4 f (M4 76 (a + 1 + 1 + 1 + 1))) fun Qr Qt g => t_401 fun V hV hW => b_401_0 (Tr_mono _) hV hW _ ⟨i9, ?_⟩) (QEc_s sp), FQc_b (CB_16 h4.1 hb) (Bd_f hf), QT_bf fq4⟩
              rw [if_neg nq]
              refine qa _ _ (ri_i (Ex_le (d := 3) (by decide) q2 _ _ (rv_i (qb _ _ (ri_i (Ex_le (d := 3) (by decide) q4 _ _ (rv_i (Ex_le (d := 3) (by decide) (c_233b h4.1 hb hf) _ _ (ri_i (Ex_le (d := 1) (by decide) (s_227 sp) _ _ (ri_i ?_)))))))))))
              rw [if_neg (by decide)]; exact g
        · refine .inr ⟨bdX M3 f (M3 76 (a + 1 + 1 + 1)), fun Qr Qt g => t_82 fun V hV hW => b_82_0 (Tr_mono _) hV hW _ ?_, XT_bd fx3, fun hb => ?_⟩
          · rw [if_neg c40]
            exact Ex_le (d := 3) (by decide) xa _ _ (ri_i (Ex_le (d := 2) (by decide) x2 _ _ (rv_i (Ex_le (d := 3) (by decide) xb _ _ (ri_i (Th_le (d := 3) (by decide) (x_76b (c := 58) ha3 e3 (by decide) hf) _ _ g))))))
          · have sp := sp_b (p := M3 76 (a + 1 + 1 + 1)) (CB_16 h3.1 hb) (Bd_f hf)
            refine ⟨_, QL_E (toQ (N' := bf_ N3 f (M3 76 (a + 1 + 1 + 1))) fun Qr Qt g => t_401 fun V hV hW => b_401_0 (Tr_mono _) hV hW _ ⟨i9, ?_⟩) (QEc_s sp), FQc_b (CB_16 h3.1 hb) (Bd_f hf), QT_bf fq3⟩
            rw [if_neg nq]
            refine qa _ _ (ri_i (Ex_le (d := 3) (by decide) q2 _ _ (rv_i (qb _ _ (ri_i (Ex_le (d := 3) (by decide) (c_244b h3.1 hb (x := 58) (by decide) hf) _ _ (rv_i (Ex_le (d := 3) (by decide) (s_233 sp) _ _ (ri_i (Ex_le (d := 1) (by decide) (s_227 sp) _ _ (ri_i ?_)))))))))))
            rw [if_neg (by decide)]; exact g
      · refine .inr ⟨bdX M2 f (M2 76 (a + 1 + 1)), fun Qr Qt g => t_82 fun V hV hW => b_82_0 (Tr_mono _) hV hW _ ?_, XT_bd fx2, fun hb => ?_⟩
        · rw [if_neg c40]
          exact Ex_le (d := 3) (by decide) xa _ _ (ri_i (Ex_le (d := 2) (by decide) x2 _ _ (rv_i (Th_le (d := 3) (by decide) xb _ _ g))))
        · obtain ⟨y, qb⟩ := qb hb
          have sp := sp_b (p := M2 76 (a + 1 + 1)) (CB_16 h2.1 hb) f0
          refine ⟨_, QL_E (toQ (N' := bf_ N2 f (M2 76 (a + 1 + 1))) fun Qr Qt g => t_401 fun V hV hW => b_401_0 (Tr_mono _) hV hW _ ⟨i9, ?_⟩) (QEc_s sp), FQc_b (CB_16 h2.1 hb) f0, QT_bf fq2⟩
          rw [if_neg nq]
          refine qa _ _ (ri_i (Ex_le (d := 3) (by decide) q2 _ _ (rv_i (qb _ _ (ri_i (Ex_le (d := 3) (by decide) (s_244 sp) _ _ (rv_i (Ex_le (d := 3) (by decide) (s_233 sp) _ _ (ri_i (Ex_le (d := 1) (by decide) (s_227 sp) _ _ (ri_i ?_)))))))))))
          rw [if_neg (by decide)]; exact g
    · refine .inr ⟨bdX M1 f (M1 76 (a + 1)), fun Qr Qt g => t_82 fun V hV hW => b_82_0 (Tr_mono _) hV hW _ ?_, XT_bd fx1, fun hb => ?_⟩
      · rw [if_neg c40]
        exact Ex_le (d := 3) (by decide) xa _ _ (ri_i (Th_le (d := 2) (by decide) (x_73b ha1 e1 hf) _ _ g))
      · have sp := sp_b (p := M1 76 (a + 1)) (CB_16 h1.1 hb) (Bd_f hf)
        refine ⟨_, QL_E (toQ (N' := bf_ N1 f (M1 76 (a + 1))) fun Qr Qt g => t_401 fun V hV hW => b_401_0 (Tr_mono _) hV hW _ ⟨i9, ?_⟩) (QEc_s sp), FQc_b (CB_16 h1.1 hb) (Bd_f hf), QT_bf fq1⟩
        rw [if_neg nq]
        refine qa _ _ (ri_i (Ex_le (d := 3) (by decide) (c_244b h1.1 hb (x := 260) (by decide) hf) _ _ (rv_i (s_402 sp _ _ (ri_i (Ex_le (d := 3) (by decide) (s_244 sp) _ _ (rv_i (Ex_le (d := 3) (by decide) (s_233 sp) _ _ (ri_i (Ex_le (d := 1) (by decide) (s_227 sp) _ _ (ri_i ?_)))))))))))
        rw [if_neg (by decide)]; exact g
  · refine .inr ⟨bdX M f (M 76 a), fun Qr Qt g => t_82 fun V hV hW => b_82_0 (Tr_mono _) hV hW _ ?_, XT_bd XT_rf, fun hb => ?_⟩
    · rw [if_neg c40]
      exact Th_le (d := 3) (by decide) xa _ _ g
    · obtain ⟨y, qa⟩ := qa hb
      have sp := sp_b (p := M 76 a) (CB_16 h.1 hb) f0
      refine ⟨_, QL_E (toQ (N' := bf_ N f (M 76 a)) fun Qr Qt g => t_401 fun V hV hW => b_401_0 (Tr_mono _) hV hW _ ⟨i9, ?_⟩) (QEc_s sp), FQc_b (CB_16 h.1 hb) f0, QT_bf QT_rf⟩
      rw [if_neg nq]
      refine qa _ _ (ri_i (Ex_le (d := 3) (by decide) (s_244 sp) _ _ (rv_i (s_402 sp _ _ (ri_i (Ex_le (d := 3) (by decide) (s_244 sp) _ _ (rv_i (Ex_le (d := 3) (by decide) (s_233 sp) _ _ (ri_i (Ex_le (d := 1) (by decide) (s_227 sp) _ _ (ri_i ?_)))))))))))
      rw [if_neg (by decide)]; exact g
end LNc
end T428_ln
section T429_al
/-! charts: alts and opts, steps of Q's loop and of the relation -/
def xdL9 : List Nat := [0, 44, 45, 46, 47, 48, 49, 50, 51, 52, 53]
def xdI9 : List Int := [75, 76, 77, 78, 79, 92, 93, 94, 95]
def qdL9 : List Nat := [6, 254, 255, 256, 257, 258, 259, 260, 261, 262, 263, 264, 266]
def qdI9 : List Int := [12, 13, 14, 170, 171, 172, 186]
def XTd (M M' : mm_) : Prop := (∀ r, r ∉ xdL9 → M' r = M r) ∧ ∀ i, i ∉ xdI9 → M' 0 i = M 0 i
def QTd (N N' : mm_) : Prop := (∀ r, r ∉ qdL9 → N' r = N r) ∧ ∀ i, i ∉ qdI9 → N' 6 i = N 6 i
section ALa
variable {b : Int} {M N M' N' M1 N1 M2 N2 : mm_} {a a' k f t x c w p i u v s l o : Int}
theorem XTd_c [Inhabited fz_] (h : XTc M M') : XTd M M' := ⟨fun r hr => h.1 r fun z => hr (by
  unfold xtL at z; simp only [List.mem_cons, List.not_mem_nil, or_false] at z
  rcases z with rfl | rfl | rfl | rfl | rfl | rfl | rfl | rfl <;> decide), fun i hi => h.2 i fun z => hi (by
  unfold xtI at z; simp only [List.mem_cons, List.not_mem_nil, or_false] at z
  rcases z with rfl | rfl | rfl | rfl | rfl <;> decide)⟩
theorem QTd_c [Inhabited fz_] (h : QT9 N N') : QTd N N' := ⟨fun r hr => h.1 r fun z => hr (by
  unfold qtL at z; simp only [List.mem_cons, List.not_mem_nil, or_false] at z
  rcases z with rfl | rfl | rfl | rfl | rfl | rfl | rfl | rfl | rfl <;> decide), fun i hi => h.2 i fun z => hi (by
  unfold qtI at z; simp only [List.mem_cons, List.not_mem_nil, or_false] at z
  rcases z with rfl | rfl | rfl | rfl | rfl <;> decide)⟩
theorem XTd_rf [Inhabited fz_] : XTd M M := ⟨fun _ _ => rfl, fun _ _ => rfl⟩
theorem QTd_rf [Inhabited fz_] : QTd N N := ⟨fun _ _ => rfl, fun _ _ => rfl⟩
theorem XTd_tr [Inhabited fz_] (h : XTd M M1) (g : XTd M1 M2) : XTd M M2 := ⟨fun r hr => by rw [g.1 r hr, h.1 r hr], fun i hi => by rw [g.2 i hi, h.2 i hi]⟩
theorem QTd_tr [Inhabited fz_] (h : QTd N N1) (g : QTd N1 N2) : QTd N N2 := ⟨fun r hr => by rw [g.1 r hr, h.1 r hr], fun i hi => by rw [g.2 i hi, h.2 i hi]⟩
theorem XTd_0 [Inhabited fz_] (h : XTd M M1) (hi : i ∈ xdI9) : XTd M (up_ M1 0 i v) := ⟨fun r hr => by rw [up_ne (by rintro rfl; exact hr (by decide))]; exact h.1 r hr, fun j hj => by rw [upo (by rintro rfl; exact hj hi)]; exact h.2 j hj⟩
theorem QTd_6 [Inhabited fz_] (h : QTd N N1) (hi : i ∈ qdI9) : QTd N (up_ N1 6 i v) := ⟨fun r hr => by rw [up_ne (by rintro rfl; exact hr (by decide))]; exact h.1 r hr, fun j hj => by rw [upo (by rintro rfl; exact hj hi)]; exact h.2 j hj⟩
theorem XTd_r [Inhabited fz_] {r : Nat} (h : XTd M M1) (hr : r ∈ xdL9) (h0 : r ≠ 0) : XTd M (up_ M1 r i v) := ⟨fun r' hr' => by rw [up_ne (by rintro rfl; exact hr' hr)]; exact h.1 r' hr', fun j hj => by rw [up_ne (Ne.symm h0)]; exact h.2 j hj⟩
theorem QTd_r [Inhabited fz_] {r : Nat} (h : QTd N N1) (hr : r ∈ qdL9) (h0 : r ≠ 6) : QTd N (up_ N1 r i v) := ⟨fun r' hr' => by rw [up_ne (by rintro rfl; exact hr' hr)]; exact h.1 r' hr', fun j hj => by rw [up_ne (Ne.symm h0)]; exact h.2 j hj⟩
theorem XTd_bd [Inhabited fz_] (h : XTd M M1) : XTd M (bdX M1 f p) := XTd_0 (XTd_0 h (by decide)) (by decide)
theorem QTd_bf [Inhabited fz_] (h : QTd N N1) : QTd N (bf_ N1 f p) := QTd_6 (QTd_6 h (by decide)) (by decide)
theorem SGP_d [Inhabited fz_] (h : SGP M N) (hx : XTd M M') (hq : QTd N N') : SGP M' N' := by
  unfold SGP gdB at *
  rw [hx.1 4 (by decide), hx.1 42 (by decide), hx.1 43 (by decide), hx.1 74 (by decide), hx.1 75 (by decide), hx.1 76 (by decide), hx.1 77 (by decide), hq.1 151 (by decide), hq.1 152 (by decide), hq.2 17 (by decide)]
  exact h
/-- what the rows of an alt leave as it was -/
def KPc (M N M' N' : mm_) : Prop := (M 0 78 ≤ M' 0 78 ∧ M' 0 79 = M 0 79) ∧ (∀ j, 0 ≤ j → j < M 0 79 → N' 263 j = N 263 j ∧ N' 264 j = N 264 j) ∧ ∀ k, 0 ≤ k → k < M 0 78 → N' 266 k = N 266 k
theorem KPc_rf [Inhabited fz_] : KPc M N M N := ⟨⟨Int.le_refl _, rfl⟩, fun _ _ _ => ⟨rfl, rfl⟩, fun _ _ _ => rfl⟩
theorem KPc_tr [Inhabited fz_] (h : KPc M N M1 N1) (g : KPc M1 N1 M2 N2) : KPc M N M2 N2 := ⟨⟨Int.le_trans h.1.1 g.1.1, by rw [g.1.2, h.1.2]⟩, fun j j0 j1 => by
  have := g.2.1 j j0 (by rw [h.1.2]; exact j1)
  rw [this.1, this.2]; exact h.2.1 j j0 j1, fun k k0 k1 => by rw [g.2.2 k k0 (by have := h.1.1; omega)]; exact h.2.2 k k0 k1⟩
theorem KPc_c [Inhabited fz_] (hx : XTc M M') (hq : QT9 N N') : KPc M N M' N' := ⟨⟨by rw [hx.2 78 (by decide)]; exact Int.le_refl _, hx.2 79 (by decide)⟩, fun _ _ _ => by rw [hq.1 263 (by decide), hq.1 264 (by decide)]; exact ⟨rfl, rfl⟩, fun _ _ _ => by rw [hq.1 266 (by decide)]⟩
/-- Q's loop at an alt or opt -/
theorem q_bl [Inhabited fz_] (h : CB b M N a) (hk : M 75 a = 46 ∨ M 75 a = 47) {V : vv_} {Qr : qr_} {Qt : qt_} (hV : Cl_ wd0 (Tr_ wd0 pg0 5) V Qr Qt m_398) (hW : Wk_ V) (g : Tr_ wd0 pg0 5 403 [.inr (.inr 6)] N (rv_ fun M16 => V 42 [rr 6] [] M16) Qt) : V 42 [rr 6] [] N := b_398_42 (Tr_mono _) hV hW _ (Ex_le (d := 1) (by decide) (c_227 h) _ _ (ri_i (by
  rw [if_pos rfl]
  refine ⟨(CB_k h).2.2, ?_⟩
  rw [if_neg (fun z => by have := (kq_0c h).1 z; omega)]
  refine Ex_le (d := 3) (by decide) (c_228f h (by decide) (by omega)) _ _ (ri_i ?_)
  rw [if_pos rfl]
  refine ⟨(CB_k h).2.2, ?_⟩
  rw [if_neg (fun z => by have := (kq_1c h).1 z; omega)]
  refine Ex_le (d := 1) (by decide) (c_229f h (w := 25) (by decide) (by omega)) _ _ (ri_i ?_)
  rw [if_pos rfl]
  by_cases c : M 75 a = 46
  · refine Ex_le (d := 1) (by decide) (c_229t h (w := 46) (by decide) c) _ _ (ri_i ?_)
    rw [if_neg (by decide)]; exact g
  · refine Ex_le (d := 1) (by decide) (c_229f h (w := 46) (by decide) c) _ _ (ri_i ?_)
    rw [if_pos rfl]
    refine Ex_le (d := 1) (by decide) (c_229t h (w := 47) (by decide) (by omega)) _ _ (ri_i ?_)
    rw [if_neg (by decide)]; exact g)))
/-- what does not begin a line -/
def nst (k : Int) : Prop := k ≠ 45 ∧ k ≠ 100 ∧ k ≠ 25 ∧ k ≠ 46 ∧ k ≠ 47
theorem q_ns [Inhabited fz_] (h : CR b M N a) (hk : nst (M 75 a)) (h2 : M 75 a ≠ 102) {V : vv_} {Qr : qr_} {Qt : qt_} (hV : Cl_ wd0 (Tr_ wd0 pg0 5) V Qr Qt m_398) (hW : Wk_ V) (g1 : M 75 a = 43 → 0 < M 0 79 → N 266 (N 263 (M 0 79 - 1)) = 0 → Tr_ wd0 pg0 5 404 [.inr (.inr 6)] N (rv_ fun M16 => V 42 [rr 6] [] M16) Qt) (g2 : (M 75 a = 43 → 0 < M 0 79 → N 266 (N 263 (M 0 79 - 1)) ≠ 0) → V 173 [rr 6] [] N) : V 42 [rr 6] [] N := b_398_42 (Tr_mono _) hV hW _ (Ex_le (d := 1) (by decide) (c_227 h.1) _ _ (ri_i (by
  obtain ⟨k1, k2, k3, k4, k5⟩ := hk
  have e := h.2.1.2.2.2
  rw [if_pos rfl]
  refine ⟨(CB_k h.1).2.2, ?_⟩
  rw [if_neg (fun z => h2 ((kq_0c h.1).1 z))]
  refine Ex_le (d := 3) (by decide) (c_228f h.1 (by decide) k1) _ _ (ri_i ?_)
  rw [if_pos rfl]
  refine ⟨(CB_k h.1).2.2, ?_⟩
  rw [if_neg (fun z => k2 ((kq_1c h.1).1 z))]
  refine Ex_le (d := 1) (by decide) (c_229f h.1 (w := 25) (by decide) k3) _ _ (ri_i ?_)
  rw [if_pos rfl]
  refine Ex_le (d := 1) (by decide) (c_229f h.1 (w := 46) (by decide) k4) _ _ (ri_i ?_)
  rw [if_pos rfl]
  refine Ex_le (d := 1) (by decide) (c_229f h.1 (w := 47) (by decide) k5) _ _ (ri_i ?_)
  rw [if_pos rfl]
  by_cases c : M 0 79 ≤ 0
  · rw [if_pos (by omega)]; exact g2 (fun _ z => by omega)
  · rw [if_neg (by omega)]
    by_cases c43 : M 75 a = 43
    · refine Ex_le (d := 1) (by decide) (c_229t h.1 (w := 43) (by decide) c43) _ _ (ri_i ?_)
      rw [if_neg (by decide), e.1, w32_id (by omega) (by omega)]
      have o := h.2.2.2.2.1.2 (M 0 79 - 1) (by omega) (by omega)
      have c6 := h.2.1.2.2.1
      refine ⟨by omega, by omega, fun _ => ?_⟩
      by_cases z : N 266 (N 263 (M 0 79 - 1)) = 0
      · rw [if_pos z]; exact g1 c43 (by omega) z
      · rw [if_neg z]; exact g2 fun _ _ => z
    · refine Ex_le (d := 1) (by decide) (c_229f h.1 (w := 43) (by decide) c43) _ _ (ri_i ?_)
      rw [if_pos rfl]; exact g2 (fun z => absurd z c43))))
/-- where Q finds that it is wrong -/
theorem q_wr [Inhabited fz_] (h : CR b M N a) (hb : b = 0) (hk : nst (M 75 a)) (hw : 0 < M 0 79 ∨ M 75 a ≠ 102) (h1 : M 75 a = 43 → 0 < M 0 79 → N 266 (N 263 (M 0 79 - 1)) ≠ 0) (h2 : M 75 a = 20 → 0 < M 0 79 → N 266 (N 263 (M 0 79 - 1)) = 0 ∧ N 264 (M 0 79 - 1) ≤ 0) : QEc N (bf_ N 1 (M 76 a)) := by
  have e := h.2.1.2.2.2
  have sp := sp_b (p := M 76 a) (f := 1) (CB_16 h.1 hb) (by decide)
  by_cases c : M 75 a = 102
  · intro V Qr Qt hV hW g
    refine b_398_42 (Tr_mono _) hV hW _ (Ex_le (d := 1) (by decide) (c_227 h.1) _ _ (ri_i ?_))
    rw [if_pos rfl]
    refine ⟨(CB_k h.1).2.2, ?_⟩
    rw [if_pos ((kq_0c h.1).2 c)]
    refine Ex_le (d := 1) (by decide) (c_227 h.1) _ _ (ri_i ?_)
    rw [if_pos rfl, if_neg (by rcases hw with z | z; omega; exact absurd c z)]
    exact Ex_le (d := 2) (by decide) (c_234 h.1 hb) _ _ (rv_i g)
  · intro V Qr Qt hV hW g
    have wr : Tr_ wd0 pg0 5 234 [.inr (.inr 6)] N (rv_ fun M1 => V 42 [rr 6] [] M1) Qt := Ex_le (d := 2) (by decide) (c_234 h.1 hb) _ _ (rv_i (QEc_s sp V Qr Qt hV hW g))
    refine q_ns h hk c hV hW (fun z1 z2 z3 => absurd z3 (h1 z1 z2)) fun _ => b_398_173 (Tr_mono _) hV hW _ ?_
    by_cases c0 : M 0 79 ≤ 0
    · rw [if_pos (by omega)]; exact wr
    · rw [if_neg (by omega)]
      by_cases c20 : M 75 a = 20
      · refine Ex_le (d := 1) (by decide) (c_229t h.1 (w := 20) (by decide) c20) _ _ (ri_i ?_)
        have o := h.2.2.2.2.1.2 (M 0 79 - 1) (by omega) (by omega)
        have c6 := h.2.1.2.2.1
        have z := h2 c20 (by omega)
        rw [if_neg (by decide), e.1, w32_id (by omega) (by omega)]
        refine ⟨by omega, by omega, fun _ => ?_⟩
        rw [if_pos z.1]
        refine ⟨by omega, ?_⟩
        rw [if_pos z.2]; exact wr
      · refine Ex_le (d := 1) (by decide) (c_229f h.1 (w := 20) (by decide) c20) _ _ (ri_i ?_)
        rw [if_pos rfl]; exact wr
/-- an end -/
theorem q_en [Inhabited fz_] (h : CR b M N a) (hk : M 75 a = 20) (hw : 0 < M 0 79) (h2 : N 266 (N 263 (M 0 79 - 1)) = 0 → 0 < N 264 (M 0 79 - 1)) {V : vv_} {Qr : qr_} {Qt : qt_} (hV : Cl_ wd0 (Tr_ wd0 pg0 5) V Qr Qt m_398) (hW : Wk_ V) (g : V 222 [rr 6] [] N) : V 42 [rr 6] [] N := by
  have e := h.2.1.2.2.2
  refine q_ns h (by unfold nst; omega) (by omega) hV hW (fun z => by omega) fun _ => b_398_173 (Tr_mono _) hV hW _ ?_
  rw [if_neg (by omega)]
  refine Ex_le (d := 1) (by decide) (c_229t h.1 (w := 20) (by decide) hk) _ _ (ri_i ?_)
  have o := h.2.2.2.2.1.2 (M 0 79 - 1) (by omega) (by omega)
  have c6 := h.2.1.2.2.1
  rw [if_neg (by decide), e.1, w32_id (by omega) (by omega)]
  refine ⟨by omega, by omega, fun _ => ?_⟩
  by_cases z : N 266 (N 263 (M 0 79 - 1)) = 0
  · rw [if_pos z]
    refine ⟨by omega, ?_⟩
    rw [if_neg (by have := h2 z; omega)]; exact g
  · rw [if_neg z]; exact g
end ALa
end T429_al
