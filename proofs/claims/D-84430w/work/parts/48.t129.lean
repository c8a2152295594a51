section T129_pg
/-! programs: X's steps and Q's ops -/
abbrev pl_ : Type := Int → Prop
def RNG (Mx Mq : mm_) (c g q : Int) : Prop := Mx 142 c = Mq 216 g ∧ Mx 142 (c + 1) = Mq 217 g ∧ Mq 218 g = q
/-- n + 1 ranges, the first g, the last l, told from c on -/
def RGL (Mx Mq : mm_) (q r0 r1 : Int) : Nat → Int → Int → Int → Prop
  | 0, c, g, l => g = l ∧ (r0 ≤ g ∧ g < r1) ∧ RNG Mx Mq c g q
  | n + 1, c, g, l => (r0 ≤ g ∧ g < r1) ∧ RNG Mx Mq c g q ∧ g < Mq 219 g ∧ RGL Mx Mq q r0 r1 n (c + 2) (Mq 219 g) l
/-- a part of a decide k: its check at c, its ranges from g up to l; the next check at ce -/
def PT1 (Mx Mq : mm_) (px : Int → Int) (L : pl_) (lo hi r0 r1 k k1 c g ce l : Int) : Prop := ∃ (n : Nat) (q : Int), (lo ≤ c ∧ c + 2 * n + 5 ≤ hi) ∧ Mx 142 c = 43 ∧ Mx 142 (c + 1) = n + 1 ∧ RGL Mx Mq q r0 r1 n (c + 2) g l ∧ px q = c + 2 * n + 5 ∧ (k < q ∧ q ≤ k1) ∧ L q ∧ Mx 142 (c + 2 * n + 4) = ce
def CHN (Mx Mq : mm_) (px : Int → Int) (L : pl_) (lo hi r0 r1 k k1 : Int) : Nat → Int → Int → Prop
  | 0, c, g => (lo ≤ c ∧ c + 1 ≤ hi) ∧ g = -1 ∧ Mx 142 c = 44 ∧ ∃ q, q = (if 0 ≤ Mq 207 k then Mq 207 k else Mq 208 k) ∧ c + 1 = px q ∧ (k < q ∧ q ≤ k1) ∧ L q
  | m + 1, c, g => ∃ ce l, PT1 Mx Mq px L lo hi r0 r1 k k1 c g ce l ∧ CHN Mx Mq px L lo hi r0 r1 k k1 m ce (Mq 219 l)
def CHP (Mx Mq : mm_) (px : Int → Int) (L : pl_) (lo hi r0 r1 k k1 : Int) : Nat → Int → Int → Int → Int → Prop
  | 0, c, g, ce, l => PT1 Mx Mq px L lo hi r0 r1 k k1 c g ce l
  | m + 1, c, g, ce, l => ∃ c1 l1, PT1 Mx Mq px L lo hi r0 r1 k k1 c g c1 l1 ∧ l1 < Mq 219 l1 ∧ CHP Mx Mq px L lo hi r0 r1 k k1 m c1 (Mq 219 l1) ce l
/-- an op k and X's steps -/
def OPX (Mx Mq : mm_) (px : Int → Int) (L : pl_) (T lo hi r0 r1 k1 fe k : Int) : Prop :=
  ((1 ≤ Mq 203 k ∧ Mq 203 k ≠ 6 ∧ Mq 203 k ≠ 7) ∧ Mx 142 (px k) = 30 ∧ Mx 142 (px k + 1) = Mq 204 k ∧ OPC Mx Mq T k (px k + 2) (px (k + 1)) fe ∧ (Mq 203 k ≤ 5 → L k → L (k + 1)))
  ∨ (Mq 203 k = 7 ∧ Mx 142 (px k) = 38 ∧ Mx 142 (px k + 1) = px (Mq 205 k) ∧ (k < Mq 205 k ∧ Mq 205 k ≤ k1) ∧ px k + 2 ≤ hi ∧ (L k → L (Mq 205 k)))
  ∨ (Mq 203 k = 6 ∧ Mx 142 (px k) = 30 ∧ Mx 142 (px k + 1) = Mq 204 k ∧ ∃ c1 t m, (t = 1 ∨ t = 2) ∧ EXP Mx Mq T (px k + 2) c1 (Mq 205 k) fe t ∧ c1 ≤ hi ∧ CHN Mx Mq px L lo hi r0 r1 k k1 (m + 1) c1 (Mq 206 k))
  ∨ (Mq 203 k = 7 ∧ px k = px (Mq 205 k) ∧ (k < Mq 205 k ∧ Mq 205 k ≤ k1) ∧ (L k → L (Mq 205 k)))
/-- a run of ops from k0 up to k1, of steps from c0 up to c1; labels from j0 up to j1; v: it ends -/
def SEG (Mx Mq : mm_) (T k0 k1 c0 c1 r0 r1 fe j0 j1 v : Int) : Prop := ∃ (px : Int → Int) (L : pl_), (px k0 = c0 ∧ px k1 = c1 ∧ ∀ k, k0 ≤ k → k ≤ k1 → c0 ≤ px k ∧ px k ≤ c1) ∧ (L k0 ∧ (∀ k, L k → k0 ≤ k ∧ k ≤ k1) ∧ (v = 1 → ¬ L k1))
  ∧ (∀ k, k0 ≤ k → k < k1 → OPX Mx Mq px L T c0 c1 r0 r1 k1 fe k) ∧ (∀ l, j0 ≤ l → l < j1 → Mx 129 (10 * T + l) = px (Mq 188 (10 * T + l)) ∧ L (Mq 188 (10 * T + l)) ∧ Mq 188 (10 * T + l) < k1)
section PG
variable {Mx Mq Mx' Mq' : mm_} {px px' : Int → Int} {L L' : pl_} {T lo hi lo' hi' r0 r1 r0' r1' k k0 k1 k1' fe fe' c g ce l q : Int}
theorem RNG_c [Inhabited gh_] (h : RNG Mx Mq c g q) (hx : Mx' 142 c = Mx 142 c ∧ Mx' 142 (c + 1) = Mx 142 (c + 1)) (hq : Mq' 216 g = Mq 216 g ∧ Mq' 217 g = Mq 217 g ∧ Mq' 218 g = Mq 218 g) : RNG Mx' Mq' c g q := by
  unfold RNG at *
  rw [hx.1, hx.2, hq.1, hq.2.1, hq.2.2]; exact h
theorem RGL_le [Inhabited gh_] : ∀ (n : Nat) {c g l : Int}, RGL Mx Mq q r0 r1 n c g l → r0 ≤ g ∧ g ≤ l ∧ l < r1
  | 0, c, g, l, h => by have := h.1; have := h.2.1; omega
  | n + 1, c, g, l, h => by have := RGL_le n h.2.2.2; have := h.1; have := h.2.2.1; omega
theorem RGL_c [Inhabited gh_] (hr0 : r0' ≤ r0) (hr1 : r1 ≤ r1') : ∀ (n : Nat) {c g l : Int}, RGL Mx Mq q r0 r1 n c g l → (∀ i, c ≤ i → i < c + 2 * n + 2 → Mx' 142 i = Mx 142 i) → (∀ i, g ≤ i → i ≤ l → Mq' 216 i = Mq 216 i ∧ Mq' 217 i = Mq 217 i ∧ Mq' 218 i = Mq 218 i) → (∀ i, g ≤ i → i < l → Mq' 219 i = Mq 219 i) → RGL Mx' Mq' q r0' r1' n c g l
  | 0, c, g, l, h, hx, hq, _ => ⟨h.1, by have := h.2.1; omega, RNG_c h.2.2 ⟨hx c (by omega) (by omega), hx (c + 1) (by omega) (by omega)⟩ (hq g (by omega) (by have := h.1; omega))⟩
  | n + 1, c, g, l, h, hx, hq, hn => by
    have le := RGL_le n h.2.2.2
    have hg := h.2.2.1
    have e := hn g (by omega) (by omega)
    refine ⟨by have := h.1; omega, RNG_c h.2.1 ⟨hx c (by omega) (by omega), hx (c + 1) (by omega) (by omega)⟩ (hq g (by omega) (by omega)), by rw [e]; exact hg, ?_⟩
    rw [e]
    exact RGL_c hr0 hr1 n h.2.2.2 (fun i a b => hx i (by omega) (by omega)) (fun i a b => hq i (by omega) b) (fun i a b => hn i (by omega) b)
/-- one range more -/
theorem RGL_a [Inhabited gh_] : ∀ (n : Nat) {c g l : Int}, RGL Mx Mq q r0 r1 n c g l → l < Mq 219 l → Mq 219 l < r1 → RNG Mx Mq (c + 2 * n + 2) (Mq 219 l) q → RGL Mx Mq q r0 r1 (n + 1) c g (Mq 219 l)
  | 0, c, g, l, h, h1, h2, h3 => by
    have e : g = l := h.1
    have b := h.2.1
    refine ⟨h.2.1, h.2.2, by rw [e]; exact h1, by rw [e], by rw [e]; omega, ?_⟩
    rw [e]
    rw [show c + 2 * ((0 : Nat) : Int) + 2 = c + 2 by omega] at h3; exact h3
  | n + 1, c, g, l, h, h1, h2, h3 => ⟨h.1, h.2.1, h.2.2.1, RGL_a n h.2.2.2 h1 h2 (by rw [show c + 2 + 2 * (n : Int) + 2 = c + 2 * ((n + 1 : Nat) : Int) + 2 by omega]; exact h3)⟩
theorem PT1_le [Inhabited gh_] (h : PT1 Mx Mq px L lo hi r0 r1 k k1 c g ce l) : r0 ≤ g ∧ g ≤ l ∧ l < r1 := by
  obtain ⟨n, q, h1, h2, h3, h4, h5⟩ := h
  exact RGL_le n h4
theorem PT1_c [Inhabited gh_] (h : PT1 Mx Mq px L lo hi r0 r1 k k1 c g ce l) (hlo : lo' ≤ lo) (hhi : hi ≤ hi') (hr0 : r0' ≤ r0) (hr1 : r1 ≤ r1') (hk : k1 ≤ k1') (hpx : ∀ i, k < i → i ≤ k1 → px' i = px i) (hL : ∀ i, L i → L' i)
    (hx : ∀ i, lo ≤ i → i < hi → Mx' 142 i = Mx 142 i) (hq : ∀ i, g ≤ i → i ≤ l → Mq' 216 i = Mq 216 i ∧ Mq' 217 i = Mq 217 i ∧ Mq' 218 i = Mq 218 i) (hn : ∀ i, g ≤ i → i < l → Mq' 219 i = Mq 219 i) : PT1 Mx' Mq' px' L' lo' hi' r0' r1' k k1' c g ce l := by
  obtain ⟨n, q, h1, h2, h3, h4, h5, h6, h7, h8⟩ := h
  exact ⟨n, q, by omega, by rw [hx c (by omega) (by omega)]; exact h2, by rw [hx _ (by omega) (by omega)]; exact h3, RGL_c hr0 hr1 n h4 (fun i a b => hx i (by omega) (by omega)) hq hn, by rw [hpx q h6.1 h6.2]; exact h5, by omega, hL q h7, by rw [hx _ (by omega) (by omega)]; exact h8⟩
theorem CHP_le [Inhabited gh_] : ∀ (m : Nat) {c g ce l : Int}, CHP Mx Mq px L lo hi r0 r1 k k1 m c g ce l → r0 ≤ g ∧ g ≤ l ∧ l < r1
  | 0, c, g, ce, l, h => PT1_le h
  | m + 1, c, g, ce, l, ⟨c1, l1, h1, h2, h3⟩ => by have := PT1_le h1; have := CHP_le m h3; omega
theorem CHP_c [Inhabited gh_] (hlo : lo' ≤ lo) (hhi : hi ≤ hi') (hr0 : r0' ≤ r0) (hr1 : r1 ≤ r1') (hk : k1 ≤ k1') (hpx : ∀ i, k < i → i ≤ k1 → px' i = px i) (hL : ∀ i, L i → L' i) (hx : ∀ i, lo ≤ i → i < hi → Mx' 142 i = Mx 142 i) :
    ∀ (m : Nat) {c g ce l : Int}, CHP Mx Mq px L lo hi r0 r1 k k1 m c g ce l → (∀ i, g ≤ i → i ≤ l → Mq' 216 i = Mq 216 i ∧ Mq' 217 i = Mq 217 i ∧ Mq' 218 i = Mq 218 i) → (∀ i, g ≤ i → i < l → Mq' 219 i = Mq 219 i) → CHP Mx' Mq' px' L' lo' hi' r0' r1' k k1' m c g ce l
  | 0, c, g, ce, l, h, hq, hn => PT1_c h hlo hhi hr0 hr1 hk hpx hL hx hq hn
  | m + 1, c, g, ce, l, ⟨c1, l1, h1, h2, h3⟩, hq, hn => by
    have e1 := PT1_le h1
    have e2 := CHP_le m h3
    have e := hn l1 (by omega) (by omega)
    exact ⟨c1, l1, PT1_c h1 hlo hhi hr0 hr1 hk hpx hL hx (fun i a b => hq i a (by omega)) (fun i a b => hn i a (by omega)), by rw [e]; exact h2, by rw [e]; exact CHP_c hlo hhi hr0 hr1 hk hpx hL hx m h3 (fun i a b => hq i (by omega) b) (fun i a b => hn i (by omega) b)⟩
theorem CHP_a [Inhabited gh_] : ∀ (m : Nat) {c g ce l ce' l' : Int}, CHP Mx Mq px L lo hi r0 r1 k k1 m c g ce l → l < Mq 219 l → PT1 Mx Mq px L lo hi r0 r1 k k1 ce (Mq 219 l) ce' l' → CHP Mx Mq px L lo hi r0 r1 k k1 (m + 1) c g ce' l'
  | 0, c, g, ce, l, ce', l', h, h1, h2 => ⟨ce, l, h, h1, h2⟩
  | m + 1, c, g, ce, l, ce', l', ⟨c1, l1, h3, h4, h5⟩, h1, h2 => ⟨c1, l1, h3, h4, CHP_a m h5 h1 h2⟩
theorem CHP_n [Inhabited gh_] : ∀ (m : Nat) {c g ce l : Int}, CHP Mx Mq px L lo hi r0 r1 k k1 m c g ce l → CHN Mx Mq px L lo hi r0 r1 k k1 0 ce (Mq 219 l) → CHN Mx Mq px L lo hi r0 r1 k k1 (m + 1) c g
  | 0, c, g, ce, l, h, h1 => ⟨ce, l, h, h1⟩
  | m + 1, c, g, ce, l, ⟨c1, l1, h3, h4, h5⟩, h1 => ⟨c1, l1, h3, CHP_n m h5 h1⟩
theorem CHN_c [Inhabited gh_] (hlo : lo' ≤ lo) (hhi : hi ≤ hi') (hr0 : r0' ≤ r0) (hr1 : r1 ≤ r1') (hk : k1 ≤ k1') (hpx : ∀ i, k < i → i ≤ k1 → px' i = px i) (hL : ∀ i, L i → L' i) (hx : ∀ i, lo ≤ i → i < hi → Mx' 142 i = Mx 142 i)
    (hq : ∀ i, r0 ≤ i → i < r1 → Mq' 216 i = Mq 216 i ∧ Mq' 217 i = Mq 217 i ∧ Mq' 218 i = Mq 218 i ∧ Mq' 219 i = Mq 219 i) (ho : Mq' 207 k = Mq 207 k ∧ Mq' 208 k = Mq 208 k) :
    ∀ (m : Nat) {c g : Int}, CHN Mx Mq px L lo hi r0 r1 k k1 m c g → CHN Mx' Mq' px' L' lo' hi' r0' r1' k k1' m c g
  | 0, c, g, ⟨h1, h2, h3, q, h4, h5, h6, h7⟩ => ⟨by omega, h2, by rw [hx c (by omega) (by omega)]; exact h3, q, by rw [ho.1, ho.2]; exact h4, by rw [hpx q h6.1 h6.2]; exact h5, by omega, hL q h7⟩
  | m + 1, c, g, ⟨ce, l, h1, h2⟩ => by
    have e1 := PT1_le h1
    refine ⟨ce, l, PT1_c h1 hlo hhi hr0 hr1 hk hpx hL hx (fun i a b => by have := hq i (by omega) (by omega); exact ⟨this.1, this.2.1, this.2.2.1⟩) (fun i a b => (hq i (by omega) (by omega)).2.2.2), ?_⟩
    rw [(hq l (by omega) (by omega)).2.2.2]
    exact CHN_c hlo hhi hr0 hr1 hk hpx hL hx hq ho m h2
theorem OPX_c [Inhabited gh_] (h : OPX Mx Mq px L T lo hi r0 r1 k1 fe k) (hlo : lo' ≤ lo) (hhi : hi ≤ hi') (hr0 : r0' ≤ r0) (hr1 : r1 ≤ r1') (hk : k1 ≤ k1') (hkk : k < k1) (hpb : ∀ i, k ≤ i → i ≤ k1 → lo ≤ px i ∧ px i ≤ hi) (hpx : ∀ i, k ≤ i → i ≤ k1 → px' i = px i) (hL : ∀ i, L i → L' i) (hL2 : L' k → L k) (hx : ∀ i, lo ≤ i → i < hi → Mx' 142 i = Mx 142 i)
    (hq : ∀ i, r0 ≤ i → i < r1 → Mq' 216 i = Mq 216 i ∧ Mq' 217 i = Mq 217 i ∧ Mq' 218 i = Mq 218 i ∧ Mq' 219 i = Mq 219 i) (ho : ∀ r, r ∈ opL → Mq' r k = Mq r k) (h9 : ∀ i, 3 * k ≤ i → i < 3 * k + 3 → Mq' 209 i = Mq 209 i) (hf : ∀ i, 0 ≤ i → i < fe → Mq' 227 i = Mq 227 i ∧ Mq' 228 i = Mq 228 i) (ht : tc_ T Mq Mq') (hfe : fe ≤ fe') : OPX Mx' Mq' px' L' T lo' hi' r0' r1' k1' fe' k := by
  have o3 := ho 203 (by decide)
  have o4 := ho 204 (by decide)
  have o5 := ho 205 (by decide)
  have o6 := ho 206 (by decide)
  have o7 := ho 207 (by decide)
  have o8 := ho 208 (by decide)
  have b0 := hpb k (by omega) (by omega)
  have b1 := hpb (k + 1) (by omega) (by omega)
  have p0 := hpx k (by omega) (by omega)
  have p1 := hpx (k + 1) (by omega) (by omega)
  unfold OPX
  rw [o3, o4, o5, o6, p0, p1]
  rcases h with ⟨g1, g2, g3, g4, g5⟩ | ⟨g1, g2, g3, g4, g5, g6⟩ | ⟨g1, g2, g3, c1, t, m, g4, g5, g6, g7⟩ | ⟨g1, g2, g3, g4⟩
  · have le : px k + 2 ≤ px (k + 1) := by
      unfold OPC at g4
      rcases g4 with e | e | e | e | e | e | e | e
      · obtain ⟨_, _, c1, _, e1, e2⟩ := e
        rcases e2 with e2 | ⟨c0, e2⟩
        · have := EXP_le e2.2.2.1; omega
        · have := EXP_le e2.2.1; have := EXP_le e2.2.2.2.2.1; omega
      · obtain ⟨_, _, _, _, _, c1, c2, m, e1, e2, e3⟩ := e
        have := VAL_le _ e1
        have : c1 ≤ c2 := by
          rcases e2 with e2 | e2 | e2
          · omega
          · exact (EXP_le e2.2.2).1
          · omega
        omega
      · obtain ⟨_, _, c1, e1, e2⟩ := e
        have := EXP_le e1; omega
      · omega
      · obtain ⟨_, _, _, _, _, c1, e1, e2⟩ := e
        have := VAL_le _ e1; omega
      · rcases e.2 with e2 | e2 <;> omega
      · omega
      · omega
    exact .inl ⟨g1, by rw [hx _ (by omega) (by omega)]; exact g2, by rw [hx _ (by omega) (by omega)]; exact g3, OPC_c g4 (fun i a b => hx i (by omega) (by omega)) ho h9 hf ht hfe, fun a b => hL _ (g5 a (hL2 b))⟩
  · refine .inr (.inl ⟨g1, by rw [hx _ (by omega) (by omega)]; exact g2, by rw [hx _ (by omega) (by omega), hpx _ (by omega) g4.2]; exact g3, by omega, by omega, fun a => hL _ (g6 (hL2 a))⟩)
  · have le := EXP_le g5
    exact .inr (.inr (.inl ⟨g1, by rw [hx _ (by omega) (by omega)]; exact g2, by rw [hx _ (by omega) (by omega)]; exact g3, c1, t, m, g4, EXP_c g5 (fun i a b => hx i (by omega) (by omega)) (fun i a b => hf i (by omega) b) ht.1 hfe, by omega, CHN_c hlo hhi hr0 hr1 hk (fun i a b => hpx i (by omega) b) hL hx hq ⟨o7, o8⟩ _ g7⟩))
  · exact .inr (.inr (.inr ⟨g1, by rw [hpx _ (by omega) g3.2]; exact g2, by omega, fun a => hL _ (g4 (hL2 a))⟩))
end PG
end T129_pg
section T130_pg
/-! runs of ops: joined, kept -/
section PG
variable {Mx Mq Mx' Mq' : mm_} {T k0 k1 k2 c0 c1 c2 r0 r1 r2 fe fe' j0 j1 j2 v v1 v2 : Int}
theorem SEG_c [Inhabited gh_] (h : SEG Mx Mq T k0 k1 c0 c1 r0 r1 fe j0 j1 v) (hx : ∀ i, c0 ≤ i → i < c1 → Mx' 142 i = Mx 142 i) (hq : ∀ i, r0 ≤ i → i < r1 → Mq' 216 i = Mq 216 i ∧ Mq' 217 i = Mq 217 i ∧ Mq' 218 i = Mq 218 i ∧ Mq' 219 i = Mq 219 i) (ho : ∀ r i, r ∈ opL → k0 ≤ i → i < k1 → Mq' r i = Mq r i) (h9 : ∀ i, 3 * k0 ≤ i → i < 3 * k1 → Mq' 209 i = Mq 209 i)
    (hf : ∀ i, 0 ≤ i → i < fe → Mq' 227 i = Mq 227 i ∧ Mq' 228 i = Mq 228 i) (ht : tc_ T Mq Mq') (hfe : fe ≤ fe') (hl : ∀ l, j0 ≤ l → l < j1 → Mx' 129 (10 * T + l) = Mx 129 (10 * T + l) ∧ Mq' 188 (10 * T + l) = Mq 188 (10 * T + l)) : SEG Mx' Mq' T k0 k1 c0 c1 r0 r1 fe' j0 j1 v := by
  obtain ⟨px, L, ⟨p0, p1, p2⟩, h2, h3, h4⟩ := h
  refine ⟨px, L, ⟨p0, p1, p2⟩, h2, fun k a b => OPX_c (h3 k a b) (Int.le_refl _) (Int.le_refl _) (Int.le_refl _) (Int.le_refl _) (Int.le_refl _) b (fun i x y => p2 i (by omega) y) (fun _ _ _ => rfl) (fun _ h => h) (fun h => h) hx hq (fun r hr => ho r k hr a b) (fun i x y => h9 i (by omega) (by omega)) hf ht hfe, fun l a b => ?_⟩
  rw [(hl l a b).1, (hl l a b).2]; exact h4 l a b
theorem SEG_v [Inhabited gh_] (h : SEG Mx Mq T k0 k1 c0 c1 r0 r1 fe j0 j1 v) (hk : k0 ≤ k1) : c0 ≤ c1 ∧ (v = 1 → k0 < k1) := by
  obtain ⟨px, L, ⟨p0, p1, p2⟩, ⟨h2, h3, h5⟩, _⟩ := h
  have := p2 k1 hk (by omega)
  refine ⟨by omega, fun e => ?_⟩
  by_cases c : k0 = k1
  · rw [c] at h2; exact absurd h2 (h5 e)
  · omega
theorem SEG_tr [Inhabited gh_] (hk : k0 ≤ k1) (hk2 : k1 ≤ k2) (hr : r0 ≤ r1) (hr2 : r1 ≤ r2) (h1 : SEG Mx Mq T k0 k1 c0 c1 r0 r1 fe j0 j1 v1) (h2 : SEG Mx Mq T k1 k2 c1 c2 r1 r2 fe j1 j2 v2) : SEG Mx Mq T k0 k2 c0 c2 r0 r2 fe j0 j2 v2 := by
  have e1 := SEG_v h1 hk
  have e2 := SEG_v h2 hk2
  obtain ⟨px, L, ⟨p0, p1, p2⟩, ⟨l0, l1, l2⟩, o1, b1⟩ := h1
  obtain ⟨py, N, ⟨q0, q1, q2⟩, ⟨n0, n1, n2⟩, o2, b2⟩ := h2
  have eqy : ∀ i, k1 ≤ i → (if i < k1 then px i else py i) = py i := fun i h => if_neg (by omega)
  have eqx : ∀ i, i ≤ k1 → (if i < k1 then px i else py i) = px i := fun i h => by
    by_cases c : i < k1
    · rw [if_pos c]
    · rw [if_neg c, show i = k1 by omega, q0, p1]
  have hall : ∀ k, k0 ≤ k → k ≤ k2 → c0 ≤ (if k < k1 then px k else py k) ∧ (if k < k1 then px k else py k) ≤ c2 := fun k a b => by
    by_cases c : k < k1
    · rw [if_pos c]; have := p2 k a (by omega); omega
    · rw [if_neg c]; have := q2 k (by omega) b; omega
  refine ⟨fun i => if i < k1 then px i else py i, fun i => L i ∨ N i, ⟨?_, ?_, hall⟩, ⟨.inl l0, fun k h => ?_, fun e h => ?_⟩, fun k a b => ?_, fun l a b => ?_⟩
  · show (if k0 < k1 then px k0 else py k0) = c0
    rw [eqx k0 hk]; exact p0
  · show (if k2 < k1 then px k2 else py k2) = c2
    rw [eqy k2 hk2]; exact q1
  · rcases h with h | h
    · have := l1 k h; omega
    · have := n1 k h; omega
  · have := e2.2 e
    rcases h with h | h
    · have := l1 k2 h; omega
    · exact n2 e h
  · by_cases c : k < k1
    · exact OPX_c (o1 k a c) (Int.le_refl _) (by omega) (Int.le_refl _) hr2 hk2 c (fun i x y => p2 i (by omega) y) (fun i x y => eqx i y) (fun i h => .inl h) (fun h => by
        rcases h with h | h
        · exact h
        · have := n1 k h; omega) (fun _ _ _ => rfl) (fun _ _ _ => ⟨rfl, rfl, rfl, rfl⟩) (fun _ _ => rfl) (fun _ _ _ => rfl) (fun _ _ _ => ⟨rfl, rfl⟩) ⟨tb_rf, rfl, rfl, rfl, rfl, rfl, rfl, rfl, rfl⟩ (Int.le_refl _)
    · exact OPX_c (o2 k (by omega) b) (by omega) (Int.le_refl _) hr (Int.le_refl _) (Int.le_refl _) b (fun i x y => q2 i (by omega) y) (fun i x y => eqy i (by omega)) (fun i h => .inr h) (fun h => by
        rcases h with h | h
        · have := l1 k h
          rw [show k = k1 by omega]; exact n0
        · exact h) (fun _ _ _ => rfl) (fun _ _ _ => ⟨rfl, rfl, rfl, rfl⟩) (fun _ _ => rfl) (fun _ _ _ => rfl) (fun _ _ _ => ⟨rfl, rfl⟩) ⟨tb_rf, rfl, rfl, rfl, rfl, rfl, rfl, rfl, rfl⟩ (Int.le_refl _)
  · by_cases c : l < j1
    · have := b1 l a c
      refine ⟨?_, .inl this.2.1, by omega⟩
      show _ = (if Mq 188 (10 * T + l) < k1 then px (Mq 188 (10 * T + l)) else py (Mq 188 (10 * T + l)))
      rw [eqx _ (by omega)]; exact this.1
    · have := b2 l (by omega) b
      have g := n1 _ this.2.1
      refine ⟨?_, .inr this.2.1, this.2.2⟩
      show _ = (if Mq 188 (10 * T + l) < k1 then px (Mq 188 (10 * T + l)) else py (Mq 188 (10 * T + l)))
      rw [eqy _ g.1]; exact this.1
theorem SEG_0 [Inhabited gh_] : SEG Mx Mq T k0 k0 c0 c0 r0 r0 fe j0 j0 0 := ⟨fun _ => c0, fun k => k = k0, ⟨rfl, rfl, fun _ _ _ => ⟨Int.le_refl _, Int.le_refl _⟩⟩, ⟨rfl, fun k h => by omega, fun e => absurd e (by decide)⟩, fun k a b => by omega, fun l a b => by omega⟩
/-- a single op -/
theorem SEG_1 [Inhabited gh_] {w : Int} (hw : Mq 203 k0 = w) (hw1 : (1 ≤ w ∧ w ≤ 5 ∧ v = 0) ∨ (8 ≤ w ∧ w ≤ 10 ∧ v = 1)) (h30 : Mx 142 c0 = 30) (h4 : Mx 142 (c0 + 1) = Mq 204 k0) (hc : c0 ≤ c1) (h : OPC Mx Mq T k0 (c0 + 2) c1 fe) : SEG Mx Mq T k0 (k0 + 1) c0 c1 r0 r0 fe j0 j0 v := by
  have e0 : (fun i => if i ≤ k0 then c0 else c1) k0 = c0 := if_pos (Int.le_refl _)
  have e1 : (fun i => if i ≤ k0 then c0 else c1) (k0 + 1) = c1 := if_neg (by omega)
  refine ⟨fun i => if i ≤ k0 then c0 else c1, fun k => k = k0 ∨ (v = 0 ∧ k = k0 + 1), ⟨e0, e1, fun k a b => ?_⟩, ⟨.inl rfl, fun k h => by omega, fun e h => by omega⟩, fun k a b => ?_, fun l a b => by omega⟩
  · show c0 ≤ (if k ≤ k0 then c0 else c1) ∧ (if k ≤ k0 then c0 else c1) ≤ c1
    split <;> omega
  · have ek : k = k0 := by omega
    rw [ek]
    unfold OPX
    rw [e0, e1, hw]
    exact .inl ⟨by omega, h30, h4, h, fun a b => .inr ⟨by omega, rfl⟩⟩
/-- labels ahead of a run -/
theorem SEG_l [Inhabited gh_] (hk : k0 < k1) (hj : j0 ≤ j1) (h : SEG Mx Mq T k0 k1 c0 c1 r0 r1 fe j1 j2 v) (hl : ∀ l, j0 ≤ l → l < j1 → Mx 129 (10 * T + l) = c0 ∧ Mq 188 (10 * T + l) = k0) : SEG Mx Mq T k0 k1 c0 c1 r0 r1 fe j0 j2 v := by
  obtain ⟨px, L, ⟨p0, p1, p2⟩, ⟨h2, h3, h5⟩, h6, h7⟩ := h
  refine ⟨px, L, ⟨p0, p1, p2⟩, ⟨h2, h3, h5⟩, h6, fun l a b => ?_⟩
  by_cases c : l < j1
  · have := hl l a c
    rw [this.1, this.2, p0]; exact ⟨rfl, h2, hk⟩
  · exact h7 l (by omega) b
end PG
end T130_pg
section T131_pr
/-! parts: what X and Q are at, and what they leave -/
def bt_ (x l : Int) : Prop := x.toNat.testBit l.toNat = true
def rgR : List Nat := [216, 217, 218, 219]
def dsR : List Nat := [220, 221, 222, 223, 224, 225, 226]
/-- how many labels are behind -/
def lc_ (b : Int) (M : mm_) : Int := if b = 0 then M 128 (M 1 18) else M 1 19
def wM (n : Int) : Int := ((2 ^ n.toNat : Nat) : Int)
theorem wM_12 [Inhabited gh_] {n : Int} (h : n ≤ 12) : wM n ≤ 4096 := by
  unfold wM
  have : 2 ^ n.toNat ≤ 2 ^ 12 := Nat.pow_le_pow_right (by decide) (by omega)
  have e : (2 : Nat) ^ 12 = 4096 := by decide
  omega
theorem wM_0 [Inhabited gh_] {n : Int} : 0 < wM n := by
  unfold wM
  have : 0 < 2 ^ n.toNat := Nat.pow_pos (by decide)
  omega
/-- masks of the trans at hand, what is sent and made -/
def MSK (b : Int) (Mx Mq : mm_) (me : Int) : Prop := (b = 1 → (Mx 63 (Mx 1 29 - 1) = Mq 213 me ∧ 0 ≤ Mx 63 (Mx 1 29 - 1) ∧ Mx 63 (Mx 1 29 - 1) < wM (Mx 123 (Mx 1 18))) ∧ (Mx 65 (Mx 1 29 - 1) = Mq 214 me ∧ 0 ≤ Mx 65 (Mx 1 29 - 1) ∧ Mx 65 (Mx 1 29 - 1) < 1024) ∧ (0 ≤ Mx 64 (Mx 1 29 - 1) ∧ Mx 64 (Mx 1 29 - 1) < 1024)) ∧ (b = 1 → 0 ≤ Mx 1 21 ∧ Mx 1 21 < 1048576) ∧ (b = 1 → 0 ≤ Mx 1 23 ∧ Mx 1 23 < 64)
def PS [Inhabited gh_] (b F : Int) (Mx Mq : mm_) (a o me : Int) : Prop := TA b F Mx Mq a o ∧ GT b F Mx Mq (Mx 71 a) ∧ LBT b F Mx Mq a ∧ stt9 Mx Mq ∧ ((1 ≤ Mx 1 29 ∧ Mx 1 29 ≤ 600) ∧ (0 ≤ me ∧ me < 1300) ∧ (b = 1 → (Mx 66 (Mx 1 29 - 1) = -1 ↔ Mq 215 me ≠ 0))) ∧ Mx 1 7 + 8 * (1201 - a) ≤ 1000000000 - (gg_ : Int) ∧ (0 ≤ Mq 6 90 ∧ Mq 6 90 ≤ a) ∧ (0 ≤ Mq 6 102 ∧ Mq 6 102 ≤ o) ∧ MSK b Mx Mq me ∧ (0 ≤ Mx 1 19 ∧ Mx 5 3 ≤ 9 * a + 400)
def PK (b : Int) (Mx Mq Mx' Mq' : mm_) (me : Int) : Prop :=
  ((∀ i, 0 ≤ i → i < Mx 5 3 → Mx' 142 i = Mx 142 i) ∧ (∀ r i, r ∈ opL → 0 ≤ i → i < Mq 6 75 → Mq' r i = Mq r i) ∧ (∀ i, 0 ≤ i → i < 3 * Mq 6 75 → Mq' 209 i = Mq 209 i) ∧ (∀ i, 0 ≤ i → i < Mq 6 104 → Mq' 227 i = Mq 227 i ∧ Mq' 228 i = Mq 228 i) ∧ (∀ r i, r ∈ rgR → 0 ≤ i → i < Mq 6 90 → Mq' r i = Mq r i) ∧ (∀ r i, r ∈ dsR → 0 ≤ i → i < Mq 6 102 → Mq' r i = Mq r i) ∧ Mq' 6 102 = Mq 6 102)
  ∧ ((∀ i, i ≠ Mx 1 29 - 1 → Mx' 63 i = Mx 63 i ∧ Mx' 64 i = Mx 64 i ∧ Mx' 65 i = Mx 65 i) ∧ (∀ i, i ≠ me → Mq' 213 i = Mq 213 i ∧ Mq' 214 i = Mq 214 i) ∧ (∀ i, i ≠ Mx 1 18 → Mx' 128 i = Mx 128 i ∧ Mq' 175 i = Mq 175 i) ∧ (∀ i, i < 10 * Mx 1 18 + lc_ b Mx ∨ 10 * Mx 1 18 + 10 ≤ i → (Mx' 62 i = Mx 62 i ∧ Mx' 129 i = Mx 129 i) ∧ Mq' 180 i = Mq 180 i ∧ Mq' 187 i = Mq 187 i ∧ Mq' 188 i = Mq 188 i ∧ Mq' 189 i = Mq 189 i))
def PB (b : Int) (Mx Mq Mx' Mq' : mm_) (a a' : Int) : Prop := a ≤ a' ∧ (Mq 6 75 ≤ Mq' 6 75 ∧ Mq' 6 75 + a ≤ Mq 6 75 + a') ∧ (Mq 6 104 ≤ Mq' 6 104 ∧ Mq' 6 104 + 2 * a ≤ Mq 6 104 + 2 * a') ∧ (Mx 5 3 ≤ Mx' 5 3 ∧ Mx' 5 3 + 9 * a ≤ Mx 5 3 + 9 * a' ∧ (b = 0 → Mx' 5 3 = Mx 5 3)) ∧ (Mq 6 90 ≤ Mq' 6 90 ∧ Mq' 6 90 + a ≤ Mq 6 90 + a') ∧ (Mx 1 7 ≤ Mx' 1 7 ∧ Mx' 1 7 + 8 * a ≤ Mx 1 7 + 8 * a')
/-- labels: so many more; in the second pass the table stays -/
def PL (b : Int) (Mx Mq Mx' Mq' : mm_) (me : Int) : Prop := lc_ b Mx ≤ lc_ b Mx' ∧ (b = 0 → Mx' 1 19 = Mx 1 19) ∧ (b = 1 → Mx' 62 = Mx 62 ∧ Mx' 128 = Mx 128 ∧ Mq' 175 = Mq 175 ∧ Mq' 180 = Mq 180 ∧ Mq' 187 = Mq 187 ∧ (∀ l, Mx 1 19 ≤ l → l < Mx' 1 19 → Mq' 189 (10 * Mx 1 18 + l) = me) ∧ (∀ l, 0 ≤ l → l < 10 → (bt_ (Mx' 64 (Mx 1 29 - 1)) l ↔ bt_ (Mx 64 (Mx 1 29 - 1)) l ∨ (Mx 1 19 ≤ l ∧ l < Mx' 1 19))))
def PRC [Inhabited gh_] (b F F' : Int) (Mx Mq Mx' Mq' : mm_) (a a' o o' me : Int) : Prop :=
  (F' ≤ F ∧ (b = 1 → F' = F)) ∧ ER b F' Mx' Mq' a' o' ∧ (XA Mx Mx' ∧ QA Mq Mq') ∧ PK b Mx Mq Mx' Mq' me ∧ PB b Mx Mq Mx' Mq' a a' ∧ LBT b F' Mx' Mq' a' ∧ MSK b Mx' Mq' me ∧ PL b Mx Mq Mx' Mq' me
/-- ops sent and made -/
def SBS (Mx Mx' Mq' : mm_) (k0 k1 : Int) : Prop := (∀ s, 0 ≤ s → s < 20 → (bt_ (Mx' 1 21) s ↔ bt_ (Mx 1 21) s ∨ ∃ k, (k0 ≤ k ∧ k < k1) ∧ Mq' 203 k = 2 ∧ Mq' 205 k = s)) ∧ (∀ s, 0 ≤ s → s < 6 → (bt_ (Mx' 1 23) s ↔ bt_ (Mx 1 23) s ∨ ∃ k, (k0 ≤ k ∧ k < k1) ∧ Mq' 203 k = 5 ∧ Mq' 205 k = s))
def SEM (b : Int) (Mx Mq Mx' Mq' : mm_) (v : Int) : Prop := b = 1 → Mq' 6 13 = 0 → Mq 6 13 = 0 ∧ SEG Mx' Mq' (Mq 6 61) (Mq 6 75) (Mq' 6 75) (Mx 5 3) (Mx' 5 3) (Mq 6 90) (Mq' 6 90) (Mq' 6 104) (Mx 1 19) (Mx' 1 19) v ∧ SBS Mx Mx' Mq' (Mq 6 75) (Mq' 6 75)
section PR
variable {b F F' F2 : Int} {Mx Mq Mx' Mq' M1 N1 M2 N2 : mm_} {a a' a1 a2 o o' o1 o2 me v v1 v2 : Int}
theorem PS_E [Inhabited gh_] (h : PS b F Mx Mq a o me) : ER b F Mx Mq a o := h.1.2.2.1
theorem PS_T [Inhabited gh_] (h : PS b F Mx Mq a o me) : Tks Mx Mq := h.1.1
theorem lc_c [Inhabited gh_] (hx : XA Mx M1) (h128 : M1 128 = Mx 128) (h19 : M1 1 19 = Mx 1 19) : lc_ b M1 = lc_ b Mx := by
  unfold lc_; rw [h128, h19, hx.2.1 18 (by decide)]
theorem PRC_rf [Inhabited gh_] (h : PS b F Mx Mq a o me) : PRC b F F Mx Mq Mx Mq a a o o me := ⟨⟨Int.le_refl _, fun _ => rfl⟩, PS_E h, ⟨XA_rf, QA_rf⟩, ⟨⟨fun _ _ _ => rfl, fun _ _ _ _ _ => rfl, fun _ _ _ => rfl, fun _ _ _ => ⟨rfl, rfl⟩, fun _ _ _ _ _ => rfl, fun _ _ _ _ _ => rfl, rfl⟩, fun _ _ => ⟨rfl, rfl, rfl⟩, fun _ _ => ⟨rfl, rfl⟩, fun _ _ => ⟨rfl, rfl⟩, fun _ _ => ⟨⟨rfl, rfl⟩, rfl, rfl, rfl, rfl⟩⟩, ⟨by omega, by omega, by omega, ⟨by omega, by omega, fun _ => rfl⟩, by omega, by omega⟩, h.2.2.1, h.2.2.2.2.2.2.2.2.1, ⟨Int.le_refl _, fun _ => rfl, fun _ => ⟨rfl, rfl, rfl, rfl, rfl, fun l a b => by omega, fun l _ _ => ⟨fun h => .inl h, fun h => by rcases h with h | h; exact h; omega⟩⟩⟩⟩
theorem bl01 [Inhabited gh_] (h : ER b F Mx Mq a o) : b = 0 ∨ b = 1 := h.2.2.2.2.2.2.2.2.1
theorem PRC_tr [Inhabited gh_] (h53 : 0 ≤ Mq 6 75) (h1 : PRC b F F' Mx Mq M1 N1 a a1 o o1 me) (h2 : PRC b F' F2 M1 N1 M2 N2 a1 a2 o1 o2 me) : PRC b F F2 Mx Mq M2 N2 a a2 o o2 me := by
  obtain ⟨f1, e1, ⟨x1, q1⟩, ⟨⟨c1, c2, c3, c4, c5, c6, c7⟩, d1, d2, d3, d4⟩, ⟨p1, p2, p3, p4, p5, p6⟩, l1, m1, t1, t2, t3⟩ := h1
  obtain ⟨g1, e2, ⟨x2, q2⟩, ⟨⟨k1, k2, k3, k4, k5, k6, k7⟩, w1, w2, w3, w4⟩, ⟨s1, s2, s3, s4, s5, s6⟩, l2, m2, u1, u2, u3⟩ := h2
  have i18 : M1 1 18 = Mx 1 18 := x1.2.1 18 (by decide)
  have i29 : M1 1 29 = Mx 1 29 := x1.2.1 29 (by decide)
  have h01 := bl01 e1
  rw [i18] at w3 w4 u3
  rw [i29] at w1 u3
  refine ⟨⟨by omega, fun hb => (g1.2 hb).trans (f1.2 hb)⟩, e2, ⟨XA_tr x1 x2, QA_tr q1 q2⟩, ⟨⟨fun i a b => (k1 i a (by omega)).trans (c1 i a b), fun r i hr a b => (k2 r i hr a (by omega)).trans (c2 r i hr a b), fun i a b => (k3 i a (by omega)).trans (c3 i a b), fun i a b => ⟨(k4 i a (by omega)).1.trans (c4 i a b).1, (k4 i a (by omega)).2.trans (c4 i a b).2⟩, fun r i hr a b => (k5 r i hr a (by omega)).trans (c5 r i hr a b), fun r i hr a b => (k6 r i hr a (by omega)).trans (c6 r i hr a b), k7.trans c7⟩, fun i hi => ?_, fun i hi => ?_, fun i hi => ?_, fun i hi => ?_⟩, ⟨by omega, by omega, by omega, ⟨by omega, by omega, fun hb => (s4.2.2 hb).trans (p4.2.2 hb)⟩, by omega, by omega⟩, l2, m2, by omega, fun hb => (u2 hb).trans (t2 hb), fun hb => ?_⟩
  · have y1 := w1 i hi; have y2 := d1 i hi
    exact ⟨y1.1.trans y2.1, y1.2.1.trans y2.2.1, y1.2.2.trans y2.2.2⟩
  · have y1 := w2 i hi; have y2 := d2 i hi
    exact ⟨y1.1.trans y2.1, y1.2.trans y2.2⟩
  · have y1 := w3 i hi; have y2 := d3 i hi
    exact ⟨y1.1.trans y2.1, y1.2.trans y2.2⟩
  · have y1 := w4 i (by omega); have y2 := d4 i hi
    exact ⟨⟨y1.1.1.trans y2.1.1, y1.1.2.trans y2.1.2⟩, y1.2.1.trans y2.2.1, y1.2.2.1.trans y2.2.2.1, y1.2.2.2.1.trans y2.2.2.2.1, y1.2.2.2.2.trans y2.2.2.2.2⟩
  · obtain ⟨v1, v2, v3, v4, v5, v6, v7⟩ := u3 hb
    obtain ⟨z1, z2, z3, z4, z5, z6, z7⟩ := t3 hb
    have hl : lc_ b M1 = M1 1 19 := by unfold lc_; rw [if_neg (by omega)]
    have hl0 : lc_ b Mx = Mx 1 19 := by unfold lc_; rw [if_neg (by omega)]
    have hl2 : lc_ b M2 = M2 1 19 := by unfold lc_; rw [if_neg (by omega)]
    refine ⟨v1.trans z1, v2.trans z2, v3.trans z3, v4.trans z4, v5.trans z5, fun l a b => ?_, fun l a b => ?_⟩
    · by_cases c : l < M1 1 19
      · rw [(w4 (10 * Mx 1 18 + l) (.inl (by omega))).2.2.2.2]; exact z6 l a c
      · exact v6 l (by omega) b
    · rw [v7 l a b, z7 l a b]
      constructor
      · rintro ((h | h) | h)
        · exact .inl h
        · exact .inr (by omega)
        · exact .inr (by omega)
      · rintro (h | h)
        · exact .inl (.inl h)
        · by_cases c : l < M1 1 19
          · exact .inl (.inr (by omega))
          · exact .inr (by omega)
theorem GT_F [Inhabited gh_] {p p' : Int} (h : GT b F Mx Mq p) (hF : F' ≤ F) (hp : p ≤ p') : GT b F' Mx Mq p' := by
  obtain ⟨h1, h2, h3, h4⟩ := h
  refine ⟨h1, h2, h3, fun hb => ?_⟩
  obtain ⟨g1, g2, g3⟩ := h4 hb
  exact ⟨g1, g2, g3.imp (fun h => h) (fun h => by omega)⟩
theorem stt9_a [Inhabited gh_] (hx : XA Mx M1) (hq : QA Mq N1) (h : stt9 Mx Mq) : stt9 M1 N1 := by
  unfold stt9 nm9_ gd_ at *
  rw [hx.2.1 18 (by decide), XA_r hx (r := 123) (by decide), XA_r hx (r := 59) (by decide), XA_r hx (r := 70) (by decide), QA_r hq (r := 174) (by decide), QA_r hq (r := 179) (by decide), QA_r hq (r := 151) (by decide)]
  exact h
theorem PS_tr [Inhabited gh_] (h : PS b F Mx Mq a o me) (hr : PRC b F F' Mx Mq M1 N1 a a1 o o1 me) (ho : o ≤ o1) : PS b F' M1 N1 a1 o1 me := by
  obtain ⟨⟨t1, t2, t3, t4, t5, t6⟩, g, l, s, ⟨u1, u2, u3⟩, w, r, d, m, n⟩ := h
  obtain ⟨f1, e1, ⟨x1, q1⟩, ⟨⟨c1, c2, c3, c4, c5, c6, c7⟩, d1, d2, d3, d4⟩, ⟨p1, p2, p3, p4, p5, p6⟩, l1, m1, y1, y2, y3⟩ := hr
  have x71 : M1 71 = Mx 71 := XA_r x1 (by decide)
  have hT1 := Tks_a x1 q1 t1
  have ga : gd_ Mx a := t3.1
  have ga1 : gd_ Mx a1 := gd_c (XA_r x1 (r := 70) (by decide)).symm e1.1
  have hp : Mx 71 a ≤ M1 71 a1 := by
    rw [x71]
    by_cases c : a = a1
    · rw [c]; exact Int.le_refl _
    · have := (t1 a1 ga1).2.2.2.2.1 a ga (by omega); omega
  refine ⟨⟨hT1, VT_a x1 q1 t2, e1, by omega, by omega, by omega⟩, GT_F (GT_a x1 q1 g) f1.1 hp, l1, stt9_a x1 q1 s, ⟨by rw [x1.2.1 29 (by decide)]; exact u1, u2, ?_⟩, by omega, by omega, by omega, m1, ?_, by omega⟩
  · rw [x1.2.1 29 (by decide), XA_r x1 (r := 66) (by decide), QA_r q1 (r := 215) (by decide)]; exact u3
  · rcases bl01 e1 with hb | hb
    · rw [y2 hb]; exact n.1
    · have hl : lc_ b M1 = M1 1 19 := by unfold lc_; rw [if_neg (by omega)]
      have hl0 : lc_ b Mx = Mx 1 19 := by unfold lc_; rw [if_neg (by omega)]
      omega
theorem PRC_tc [Inhabited gh_] (hb : b = 1) (h : PRC b F F' Mx Mq M1 N1 a a1 o o1 me) {T : Int} : tc_ T Mq N1 := by
  obtain ⟨f1, e1, ⟨x1, q1⟩, _, _, _, _, _, _, t3⟩ := h
  exact ⟨⟨QA_r q1 (by decide), QA_r q1 (by decide), QA_r q1 (by decide), QA_r q1 (by decide), QA_r q1 (by decide)⟩, QA_r q1 (by decide), QA_r q1 (by decide), QA_r q1 (by decide), QA_r q1 (by decide), by rw [(t3 hb).2.2.1], q1.2 17 (by decide), q1.2 18 (by decide), q1.2 19 (by decide)⟩
theorem SEM_tr [Inhabited gh_] (hp : PS b F Mx Mq a o me) (h1 : PRC b F F' Mx Mq M1 N1 a a1 o o1 me) (h2 : PRC b F' F2 M1 N1 M2 N2 a1 a2 o1 o2 me) (s1 : SEM b Mx Mq M1 N1 v1) (s2 : SEM b M1 N1 M2 N2 v2) : SEM b Mx Mq M2 N2 v2 := by
  intro hb h0
  obtain ⟨z2, g2, y2⟩ := s2 hb h0
  obtain ⟨z1, g1, y1⟩ := s1 hb z2
  have ht := PRC_tc hb h2 (T := Mq 6 61)
  obtain ⟨f1, e1, ⟨x1, q1⟩, ⟨⟨c1, c2, c3, c4, c5, c6, c7⟩, d1, d2, d3, d4⟩, ⟨p1, p2, p3, p4, p5, p6⟩, l1, m1, t1, t2, t3⟩ := h1
  obtain ⟨g1', e2, ⟨x2, q2⟩, ⟨⟨k1, k2, k3, k4, k5, k6, k7⟩, w1, w2, w3, w4⟩, ⟨b1, b2, b3, b4, b5, b6⟩, l2, m2, u1, u2, u3⟩ := h2
  have i61 : N1 6 61 = Mq 6 61 := q1.2 61 (by decide)
  have hT : Mx 1 18 = Mq 6 61 := hp.1.2.1.2.1.symm
  have i18 : M1 1 18 = Mx 1 18 := x1.2.1 18 (by decide)
  rw [i61] at g2
  have a75 := hp.1.2.2.2.1.1
  have a53 := (ER_st hp.1.2.2.1).1
  have a90 := hp.2.2.2.2.2.2.1.1
  have hl : lc_ b M1 = M1 1 19 := by unfold lc_; rw [if_neg (by omega)]
  refine ⟨z1, SEG_tr (by omega) (by omega) (by omega) (by omega) (SEG_c g1 (fun i a b => k1 i (by omega) b) (fun i a b => ⟨k5 216 i (by decide) (by omega) b, k5 217 i (by decide) (by omega) b, k5 218 i (by decide) (by omega) b, k5 219 i (by decide) (by omega) b⟩) (fun r i hr a b => k2 r i hr (by omega) b) (fun i a b => k3 i (by omega) b) k4 ht (by omega) (fun l a b => ?_)) g2, ?_⟩
  · have := w4 (10 * Mq 6 61 + l) (.inl (by rw [i18, hT, hl]; omega))
    exact ⟨this.1.2, this.2.2.2.1⟩
  · have key : ∀ (w : Int) (s : Int), (∃ k, (Mq 6 75 ≤ k ∧ k < N2 6 75) ∧ N2 203 k = w ∧ N2 205 k = s) ↔ (∃ k, (Mq 6 75 ≤ k ∧ k < N1 6 75) ∧ N1 203 k = w ∧ N1 205 k = s) ∨ (∃ k, (N1 6 75 ≤ k ∧ k < N2 6 75) ∧ N2 203 k = w ∧ N2 205 k = s) := by
      intro w s
      constructor
      · rintro ⟨k, ⟨h1, h2⟩, h3, h4⟩
        by_cases c : k < N1 6 75
        · exact .inl ⟨k, ⟨h1, c⟩, by rw [← k2 203 k (by decide) (by omega) c]; exact h3, by rw [← k2 205 k (by decide) (by omega) c]; exact h4⟩
        · exact .inr ⟨k, ⟨by omega, h2⟩, h3, h4⟩
      · rintro (⟨k, ⟨h1, h2⟩, h3, h4⟩ | ⟨k, ⟨h1, h2⟩, h3, h4⟩)
        · exact ⟨k, ⟨h1, by omega⟩, by rw [k2 203 k (by decide) (by omega) h2]; exact h3, by rw [k2 205 k (by decide) (by omega) h2]; exact h4⟩
        · exact ⟨k, ⟨by omega, h2⟩, h3, h4⟩
    refine ⟨fun s a b => ?_, fun s a b => ?_⟩
    · rw [y2.1 s a b, y1.1 s a b, key, or_assoc]
    · rw [y2.2 s a b, y1.2 s a b, key, or_assoc]
end PR
end T131_pr
section T132_pa
/-! an act, a last: as parts of parts -/
section PA
variable {b F F' F2 : Int} {Mx Mq Mx' Mq' Ma MX MQ M1 N1 M2 N2 : mm_} {a a' a1 a2 o o' o1 o2 me v v1 v2 w : Int}
theorem or_bt [Inhabited gh_] {x k : Int} {m : Nat} (hm : m ≤ 31) (h0 : 0 ≤ x) (h1 : x < ((2 ^ m : Nat) : Int)) (k0 : 0 ≤ k) (k1 : k < (m : Int)) : (0 ≤ or_ x (sl_ 1 k) ∧ or_ x (sl_ 1 k) < ((2 ^ m : Nat) : Int)) ∧ ∀ l : Int, 0 ≤ l → (bt_ (or_ x (sl_ 1 k)) l ↔ bt_ x l ∨ l = k) := by
  obtain ⟨n, hn⟩ := Int.eq_ofNat_of_zero_le h0
  obtain ⟨j, hj⟩ := Int.eq_ofNat_of_zero_le k0
  have hp : (2 ^ m : Nat) ≤ 2 ^ 31 := Nat.pow_le_pow_right (by decide) hm
  have hnb : n < 2 ^ m := by rw [hn] at h1; exact_mod_cast h1
  have hjm : j < m := by omega
  have h2j : (2 : Nat) ^ j < 2 ^ m := Nat.pow_lt_pow_right (by decide) hjm
  have e : or_ x (sl_ 1 k) = ((n ||| 2 ^ j : Nat) : Int) := by
    rw [hn, hj, sl_1 (by omega)]
    exact or_nat (by omega) (by omega)
  rw [e]
  refine ⟨⟨by omega, by exact_mod_cast Nat.or_lt_two_pow hnb h2j⟩, fun l l0 => ?_⟩
  obtain ⟨i, hi⟩ := Int.eq_ofNat_of_zero_le l0
  unfold bt_
  rw [hn, hi, Int.toNat_natCast, Int.toNat_natCast, Int.toNat_natCast, Nat.testBit_or, Bool.or_eq_true, Nat.testBit_two_pow, decide_eq_true_eq]
  constructor
  · rintro (h | h)
    · exact .inl h
    · right; rw [hj, h]
  · rintro (h | h)
    · exact .inl h
    · right; rw [hj] at h; exact (Int.ofNat.inj h).symm
theorem LBT_c [Inhabited gh_] (h : LBT b F Mx Mq a) (hx : XA Mx M1) (hq : QA Mq N1) (h62 : M1 62 = Mx 62) (h128 : M1 128 = Mx 128) (h175 : N1 175 = Mq 175) (h180 : N1 180 = Mq 180) (h187 : N1 187 = Mq 187) (ha : a ≤ a1) : LBT b F M1 N1 a1 := by
  unfold LBT LBG lbl9 nm9_ gd_ at *
  rw [hx.2.1 18 (by decide), XA_r hx (r := 70) (by decide), XA_r hx (r := 71) (by decide), QA_r hq (r := 151) (by decide), h62, h128, h175, h180, h187]
  refine ⟨h.1, fun k k0 k1 => ?_, h.2.2⟩
  have := h.2.1 k k0 k1
  exact ⟨this.1, fun hb => by have := this.2.1 hb; omega, this.2.2⟩
/-- an act with its count -/
theorem AR_P [Inhabited gh_] (hp : PS b F Mx Mq a o me) (hP : PXL b Mx Ma [Mx 71 a, 30]) (hM : SM Ma MX w v) (hw : 1 ≤ w ∧ w ≤ 5) (hA : AR b F MX Mq Mx' Mq' a a' o w v) : PRC b F F Mx Mq Mx' Mq' a a' o o me ∧ SEM b Mx Mq Mx' Mq' 0 := by
  have h01 := bl01 (PS_E hp)
  have hps := hp
  obtain ⟨⟨t1, t2, t3, t4, t5, t6⟩, g, l, s, ⟨u1, u2, u3⟩, w0, r, d, m, n⟩ := hp
  obtain ⟨P1, P2, P3, P4, P5, P6, P7⟩ := hP
  obtain ⟨A1, A2, A3, A4, A5, A6, A7, A8, A9, A10, A11, A12, A13, A14⟩ := hA
  have len : ((([Mx 71 a, 30] : List Int).length : Nat) : Int) = 2 := rfl
  rw [len] at P7
  -- the base
  have mr : ∀ r : Nat, r ≠ 1 → MX r = Ma r := fun r hr => by
    rcases hM with ⟨e, _⟩ | ⟨_, _, e⟩ | ⟨_, _, e⟩
    · rw [e]
    · rw [e, up_ne hr]
    · rw [e, up_ne hr]
  have mi : ∀ i : Int, i ≠ 21 → i ≠ 23 → MX 1 i = Ma 1 i := fun i h1 h3 => by
    rcases hM with ⟨e, _⟩ | ⟨_, _, e⟩ | ⟨_, _, e⟩
    · rw [e]
    · rw [e, up_off h1]
    · rw [e, up_off h3]
  have xa : XA Ma MX := by
    rcases hM with ⟨e, _⟩ | ⟨_, _, e⟩ | ⟨_, _, e⟩
    · rw [e]; exact XA_rf
    · rw [e]; exact XA_u1 (by decide)
    · rw [e]; exact XA_u1 (by decide)
  have xA : XA Mx Mx' := XA_tr (XA_tr (XF_XA P1) xa) (XC_XA A2)
  have qA : QA Mq Mq' := QC_QA A3
  have pr : ∀ r : Nat, r ≠ 1 → r ≠ 5 → r ≠ 142 → Mx' r = Mx r := fun r a b c => by rw [A2.1 r (by unfold xcL; simp only [List.mem_cons, List.not_mem_nil, or_false, not_or]; exact ⟨a, b, c⟩), mr r a, XF_70 P1 a b c]
  have qr : ∀ r : Nat, r ∉ qcL → Mq' r = Mq r := fun r hr => A3.1 r hr
  have x5 : MX 5 3 = Ma 5 3 := by rw [mr 5 (by decide)]
  have x142 : MX 142 = Ma 142 := mr 142 (by decide)
  have y53 : Mx 5 3 ≤ MX 5 3 ∧ MX 5 3 ≤ Mx 5 3 + 2 := by omega
  have x17 : MX 1 7 = Mx 1 7 := by rw [mi 7 (by decide) (by decide), P2]
  have x71 : MX 71 = Mx 71 := by rw [mr 71 (by decide), XF_70 P1 (by decide) (by decide) (by decide)]
  have c19 : Mx' 1 19 = Mx 1 19 := by rw [A2.2.1 19 (by decide), mi 19 (by decide) (by decide), P2]
  have lc : lc_ b Mx' = lc_ b Mx := lc_c xA (pr 128 (by decide) (by decide) (by decide)) c19
  -- what is sent and made
  have y21 : Mx' 1 21 = MX 1 21 := A2.2.1 21 (by decide)
  have y23 : Mx' 1 23 = MX 1 23 := A2.2.1 23 (by decide)
  have z21 : Ma 1 21 = Mx 1 21 := by rw [P2]
  have z23 : Ma 1 23 = Mx 1 23 := by rw [P2]
  have S : b = 1 → ((0 ≤ Mx' 1 21 ∧ Mx' 1 21 < 1048576) ∧ ∀ q, 0 ≤ q → (bt_ (Mx' 1 21) q ↔ bt_ (Mx 1 21) q ∨ (w = 2 ∧ v = q))) ∧ ((0 ≤ Mx' 1 23 ∧ Mx' 1 23 < 64) ∧ ∀ q, 0 ≤ q → (bt_ (Mx' 1 23) q ↔ bt_ (Mx 1 23) q ∨ (w = 5 ∧ v = q))) := fun hb => by
    rw [y21, y23]
    rcases hM with ⟨e, e2⟩ | ⟨e2, e3, e⟩ | ⟨e2, e3, e⟩
    · rw [e, z21, z23]
      refine ⟨⟨m.2.1 hb, fun q h => ⟨fun h => .inl h, fun h2 => ?_⟩⟩, m.2.2 hb, fun q h => ⟨fun h => .inl h, fun h2 => ?_⟩⟩
      · rcases h2 with h2 | h2
        · exact h2
        · omega
      · rcases h2 with h2 | h2
        · exact h2
        · omega
    · have := or_bt (m := 20) (x := Mx 1 21) (k := v) (by decide) (m.2.1 hb).1 (m.2.1 hb).2 e3.1 e3.2
      rw [e, up_at, up_off (by decide), z21, z23]
      refine ⟨⟨this.1, fun q h => ?_⟩, m.2.2 hb, fun q h => ⟨fun h => .inl h, fun h2 => ?_⟩⟩
      · rw [this.2 q h]
        constructor
        · rintro (h | h)
          · exact .inl h
          · exact .inr ⟨e2, h.symm⟩
        · rintro (h | h)
          · exact .inl h
          · exact .inr h.2.symm
      · rcases h2 with h2 | h2
        · exact h2
        · omega
    · have := or_bt (m := 6) (x := Mx 1 23) (k := v) (by decide) (m.2.2 hb).1 (m.2.2 hb).2 e3.1 e3.2
      rw [e, up_at, up_off (by decide), z21, z23]
      refine ⟨⟨m.2.1 hb, fun q h => ⟨fun h => .inl h, fun h2 => ?_⟩⟩, this.1, fun q h => ?_⟩
      · rcases h2 with h2 | h2
        · exact h2
        · omega
      · rw [this.2 q h]
        constructor
        · rintro (h | h)
          · exact .inl h
          · exact .inr ⟨e2, h.symm⟩
        · rintro (h | h)
          · exact .inl h
          · exact .inr h.2.symm
  have i29 : Mx' 1 29 = Mx 1 29 := xA.2.1 29 (by decide)
  have code : ∀ i, 0 ≤ i → i < Mx 5 3 → Mx' 142 i = Mx 142 i := fun i a b => by rw [A9 i a (by omega), x142, P5 i b]
  have s53 := (ER_st t3).1
  constructor
  · refine ⟨⟨Int.le_refl _, fun _ => rfl⟩, A4, ⟨xA, qA⟩, ⟨⟨code, A10, A11, A7, fun r i hr _ _ => by rw [qr r (by unfold rgR at hr; unfold qcL; simp only [List.mem_cons, List.not_mem_nil, or_false] at hr ⊢; omega)], fun r i hr _ _ => by rw [qr r (by unfold dsR at hr; unfold qcL; simp only [List.mem_cons, List.not_mem_nil, or_false] at hr ⊢; omega)], A3.2 102 (by decide)⟩, fun i _ => ?_, fun i _ => ?_, fun i _ => ?_, fun i _ => ?_⟩, ⟨by omega, by omega, by omega, ⟨by omega, by omega, fun hb => by rw [A8.2.2 hb, x5, P3 hb]⟩, by rw [A3.2 90 (by decide)]; omega, by omega⟩, LBT_c l xA qA (pr 62 (by decide) (by decide) (by decide)) (pr 128 (by decide) (by decide) (by decide)) (qr 175 (by decide)) (qr 180 (by decide)) (qr 187 (by decide)) (by omega), ⟨fun hb => ?_, fun hb => (S hb).1.1, fun hb => (S hb).2.1⟩, by omega, fun _ => c19, fun hb => ?_⟩
    · rw [pr 63 (by decide) (by decide) (by decide), pr 64 (by decide) (by decide) (by decide), pr 65 (by decide) (by decide) (by decide)]; exact ⟨rfl, rfl, rfl⟩
    · rw [qr 213 (by decide), qr 214 (by decide)]; exact ⟨rfl, rfl⟩
    · rw [pr 128 (by decide) (by decide) (by decide), qr 175 (by decide)]; exact ⟨rfl, rfl⟩
    · rw [pr 62 (by decide) (by decide) (by decide), pr 129 (by decide) (by decide) (by decide), qr 180 (by decide), qr 187 (by decide), qr 188 (by decide), qr 189 (by decide)]; exact ⟨⟨rfl, rfl⟩, rfl, rfl, rfl, rfl⟩
    · rw [i29, xA.2.1 18 (by decide), pr 123 (by decide) (by decide) (by decide), pr 63 (by decide) (by decide) (by decide), pr 64 (by decide) (by decide) (by decide), pr 65 (by decide) (by decide) (by decide), qr 213 (by decide), qr 214 (by decide)]; exact m.1 hb
    · rw [pr 62 (by decide) (by decide) (by decide), pr 128 (by decide) (by decide) (by decide), pr 64 (by decide) (by decide) (by decide), qr 175 (by decide), qr 180 (by decide), qr 187 (by decide), c19]
      exact ⟨rfl, rfl, rfl, rfl, rfl, fun l a b => by omega, fun l _ _ => ⟨fun h => .inl h, fun h => by rcases h with h | h; exact h; omega⟩⟩
  · intro hb h0
    obtain ⟨z0, hop⟩ := A14 hb h0
    have p4 := P4 hb
    rw [len] at p4
    obtain ⟨s1, s2, _⟩ := p4.2
    have e53 : MX 5 3 = Mx 5 3 + 2 := by omega
    have r90 : Mq' 6 90 = Mq 6 90 := A3.2 90 (by decide)
    have c30 : Mx' 142 (Mx 5 3) = 30 := by rw [A9 _ s53 (by omega), x142]; simpa using s2
    have c71 : Mx' 142 (Mx 5 3 + 1) = Mq' 204 (Mq 6 75) := by
      rw [A9 _ (by omega) (by omega), x142, A13.1, x71]; exact s1
    rw [A5, r90, c19]
    refine ⟨z0, SEG_1 (w := w) A13.2.1 (.inl ⟨hw.1, hw.2, rfl⟩) c30 c71 (by omega) (by rw [e53] at hop; exact hop), fun q a b => ?_, fun q a b => ?_⟩
    · rw [(S hb).1.2 q a]
      constructor
      · rintro (h | h)
        · exact .inl h
        · exact .inr ⟨Mq 6 75, ⟨by omega, by omega⟩, by rw [A13.2.1]; exact h.1, by rw [A13.2.2 (.inl h.1)]; exact h.2⟩
      · rintro (h | ⟨k, hk, h1, h2⟩)
        · exact .inl h
        · have ek : k = Mq 6 75 := by omega
          rw [ek] at h1 h2
          rw [A13.2.1] at h1
          rw [A13.2.2 (.inl h1)] at h2
          exact .inr ⟨h1, h2⟩
    · rw [(S hb).2.2 q a]
      constructor
      · rintro (h | h)
        · exact .inl h
        · exact .inr ⟨Mq 6 75, ⟨by omega, by omega⟩, by rw [A13.2.1]; exact h.1, by rw [A13.2.2 (.inr h.1)]; exact h.2⟩
      · rintro (h | ⟨k, hk, h1, h2⟩)
        · exact .inl h
        · have ek : k = Mq 6 75 := by omega
          rw [ek] at h1 h2
          rw [A13.2.1] at h1
          rw [A13.2.2 (.inr h1)] at h2
          exact .inr ⟨h1, h2⟩
end PA
end T132_pa
section T133_pa
/-! a last, a label: as parts of parts -/
section PA
variable {b F F' F2 : Int} {Mx Mq Mx' Mq' Ma MX MQ M1 N1 M2 N2 : mm_} {a a' a1 a2 o o' o1 o2 me v v1 v2 w : Int}
theorem LA_P [Inhabited gh_] (hp : PS b F Mx Mq a o me) (hP : PXL b Mx Ma [Mx 71 a, 30]) (hM : LM b Ma Mq me MX MQ) (hw : 8 ≤ w ∧ w ≤ 10) (hA : AR b F MX MQ Mx' Mq' a a' o w 0) : PRC b F F Mx Mq Mx' Mq' a a' o o me ∧ SEM b Mx Mq Mx' Mq' 1 := by
  have h01 := bl01 (PS_E hp)
  obtain ⟨⟨t1, t2, t3, t4, t5, t6⟩, g, l, s, ⟨u1, u2, u3⟩, w0, r, d, m, n⟩ := hp
  obtain ⟨P1, P2, P3, P4, P5, P6, P7⟩ := hP
  obtain ⟨lx, lq⟩ := LM_A hM
  obtain ⟨A1, A2, A3, A4, A5, A6, A7, A8, A9, A10, A11, A12, A13, A14⟩ := hA
  have len : ((([Mx 71 a, 30] : List Int).length : Nat) : Int) = 2 := rfl
  rw [len] at P7
  have a29 : Ma 1 29 = Mx 1 29 := by rw [P2]
  have mr : ∀ r : Nat, r ≠ 63 → r ≠ 65 → MX r = Ma r := fun r h1 h2 => by
    rcases hM with ⟨e, _⟩ | ⟨_, k, _, ⟨_, e, _⟩ | ⟨_, e, _⟩⟩
    · rw [e]
    · rw [e, up_ne h1]
    · rw [e, up_ne h2]
  have mq : ∀ r : Nat, r ≠ 213 → r ≠ 214 → MQ r = Mq r := fun r h1 h2 => by
    rcases hM with ⟨_, e⟩ | ⟨_, k, _, ⟨_, _, e⟩ | ⟨_, _, e⟩⟩
    · rw [e]
    · rw [e, up_ne h1]
    · rw [e, up_ne h2]
  have a63 : ∀ r : Nat, r ≠ 1 → r ≠ 5 → r ≠ 142 → Ma r = Mx r := fun r a b c => XF_70 P1 a b c
  -- the masks
  have K : (∀ i, i ≠ Mx 1 29 - 1 → MX 63 i = Mx 63 i ∧ MX 65 i = Mx 65 i) ∧ (∀ i, i ≠ me → MQ 213 i = Mq 213 i ∧ MQ 214 i = Mq 214 i) ∧ (b = 1 → (MX 63 (Mx 1 29 - 1) = MQ 213 me ∧ 0 ≤ MX 63 (Mx 1 29 - 1) ∧ MX 63 (Mx 1 29 - 1) < wM (Mx 123 (Mx 1 18))) ∧ (MX 65 (Mx 1 29 - 1) = MQ 214 me ∧ 0 ≤ MX 65 (Mx 1 29 - 1) ∧ MX 65 (Mx 1 29 - 1) < 1024)) := by
    rcases hM with ⟨e, e2⟩ | ⟨hb, k, hk, ⟨hk3, e, e2⟩ | ⟨hk2, e, e2⟩⟩
    · rw [e, e2, a63 63 (by decide) (by decide) (by decide), a63 65 (by decide) (by decide) (by decide)]
      exact ⟨fun _ _ => ⟨rfl, rfl⟩, fun _ _ => ⟨rfl, rfl⟩, fun hb => ⟨(m.1 hb).1, (m.1 hb).2.1⟩⟩
    · rw [a29, a63 63 (by decide) (by decide) (by decide)] at e
      have q := m.1 hb
      rw [a63 123 (by decide) (by decide) (by decide), P2] at hk3
      have := or_bt (m := (Mx 123 (Mx 1 18)).toNat) (x := Mx 63 (Mx 1 29 - 1)) (k := k) (by have := s.1.2.1; omega) q.1.2.1 q.1.2.2 hk.1 (by omega)
      rw [e, e2]
      refine ⟨fun i hi => ⟨by rw [up_off hi, a63 63 (by decide) (by decide) (by decide)], by rw [up_ne (by decide), a63 65 (by decide) (by decide) (by decide)]⟩, fun i hi => ⟨by rw [up_off hi], by rw [up_ne (by decide)]⟩, fun _ => ⟨?_, ?_⟩⟩
      · rw [up_at, up_at, ← q.1.1]; exact ⟨rfl, this.1⟩
      · rw [up_ne (by decide), up_ne (by decide), a63 65 (by decide) (by decide) (by decide)]; exact q.2.1
    · rw [a29, a63 65 (by decide) (by decide) (by decide)] at e
      have q := m.1 hb
      have := or_bt (m := 10) (x := Mx 65 (Mx 1 29 - 1)) (k := k) (by decide) q.2.1.2.1 q.2.1.2.2 hk.1 hk2
      rw [e, e2]
      refine ⟨fun i hi => ⟨by rw [up_ne (by decide), a63 63 (by decide) (by decide) (by decide)], by rw [up_off hi, a63 65 (by decide) (by decide) (by decide)]⟩, fun i hi => ⟨by rw [up_ne (by decide)], by rw [up_off hi]⟩, fun _ => ⟨?_, ?_⟩⟩
      · rw [up_ne (by decide), up_ne (by decide), a63 63 (by decide) (by decide) (by decide)]; exact q.1
      · rw [up_at, up_at, ← q.2.1.1]; exact ⟨rfl, this.1⟩
  have xA : XA Mx Mx' := XA_tr (XA_tr (XF_XA P1) lx) (XC_XA A2)
  have qA : QA Mq Mq' := QA_tr lq (QC_QA A3)
  have px : ∀ r : Nat, r ≠ 1 → r ≠ 5 → r ≠ 142 → Mx' r = MX r := fun r a b c => A2.1 r (by unfold xcL; simp only [List.mem_cons, List.not_mem_nil, or_false, not_or]; exact ⟨a, b, c⟩)
  have pr : ∀ r : Nat, r ≠ 1 → r ≠ 5 → r ≠ 142 → r ≠ 63 → r ≠ 65 → Mx' r = Mx r := fun r a b c h1 h2 => by rw [px r a b c, mr r h1 h2, a63 r a b c]
  have qr : ∀ r : Nat, r ∉ qcL → r ≠ 213 → r ≠ 214 → Mq' r = Mq r := fun r hr h1 h2 => by rw [A3.1 r hr, mq r h1 h2]
  have q6 : ∀ i : Int, i ∉ qcI → Mq' 6 i = Mq 6 i := fun i hi => by rw [A3.2 i hi, mq 6 (by decide) (by decide)]
  have m6 : MQ 6 = Mq 6 := mq 6 (by decide) (by decide)
  have x5 : MX 5 3 = Ma 5 3 := by rw [mr 5 (by decide) (by decide)]
  have x142 : MX 142 = Ma 142 := mr 142 (by decide) (by decide)
  have x1 : MX 1 = Mx 1 := by rw [mr 1 (by decide) (by decide), P2]
  have x71 : MX 71 = Mx 71 := by rw [mr 71 (by decide) (by decide), a63 71 (by decide) (by decide) (by decide)]
  have c19 : Mx' 1 19 = Mx 1 19 := by rw [A2.2.1 19 (by decide), x1]
  have c21 : Mx' 1 21 = Mx 1 21 := by rw [A2.2.1 21 (by decide), x1]
  have c23 : Mx' 1 23 = Mx 1 23 := by rw [A2.2.1 23 (by decide), x1]
  have lc : lc_ b Mx' = lc_ b Mx := lc_c xA (pr 128 (by decide) (by decide) (by decide) (by decide) (by decide)) c19
  have i29 : Mx' 1 29 = Mx 1 29 := xA.2.1 29 (by decide)
  have s53 := (ER_st t3).1
  rw [m6] at A5 A6 A7 A10 A11 A13 A14
  rw [x1] at A12
  have code : ∀ i, 0 ≤ i → i < Mx 5 3 → Mx' 142 i = Mx 142 i := fun i a b => by rw [A9 i a (by omega), x142, P5 i b]
  have mo : ∀ r, r ∈ opL → MQ r = Mq r := fun r hr => mq r (by unfold opL at hr; simp only [List.mem_cons, List.not_mem_nil, or_false] at hr; omega) (by unfold opL at hr; simp only [List.mem_cons, List.not_mem_nil, or_false] at hr; omega)
  constructor
  · refine ⟨⟨Int.le_refl _, fun _ => rfl⟩, A4, ⟨xA, qA⟩, ⟨⟨code, fun r i hr a b => by rw [A10 r i hr a b, mo r hr], fun i a b => by rw [A11 i a b, mq 209 (by decide) (by decide)], fun i a b => by rw [(A7 i a b).1, (A7 i a b).2, mq 227 (by decide) (by decide), mq 228 (by decide) (by decide)]; exact ⟨rfl, rfl⟩, fun r i hr _ _ => by rw [qr r (by unfold rgR at hr; unfold qcL; simp only [List.mem_cons, List.not_mem_nil, or_false] at hr ⊢; omega) (by unfold rgR at hr; simp only [List.mem_cons, List.not_mem_nil, or_false] at hr; omega) (by unfold rgR at hr; simp only [List.mem_cons, List.not_mem_nil, or_false] at hr; omega)], fun r i hr _ _ => by rw [qr r (by unfold dsR at hr; unfold qcL; simp only [List.mem_cons, List.not_mem_nil, or_false] at hr ⊢; omega) (by unfold dsR at hr; simp only [List.mem_cons, List.not_mem_nil, or_false] at hr; omega) (by unfold dsR at hr; simp only [List.mem_cons, List.not_mem_nil, or_false] at hr; omega)], q6 102 (by decide)⟩, fun i hi => ?_, fun i hi => ?_, fun i _ => ?_, fun i _ => ?_⟩, ⟨by omega, by omega, by omega, ⟨by omega, by omega, fun hb => by rw [A8.2.2 hb, x5, P3 hb]⟩, by rw [q6 90 (by decide)]; omega, by omega⟩, LBT_c l xA qA (pr 62 (by decide) (by decide) (by decide) (by decide) (by decide)) (pr 128 (by decide) (by decide) (by decide) (by decide) (by decide)) (qr 175 (by decide) (by decide) (by decide)) (qr 180 (by decide) (by decide) (by decide)) (qr 187 (by decide) (by decide) (by decide)) (by omega), ⟨fun hb => ?_, by rw [c21]; exact m.2.1, by rw [c23]; exact m.2.2⟩, by omega, fun _ => c19, fun hb => ?_⟩
    · rw [px 63 (by decide) (by decide) (by decide), pr 64 (by decide) (by decide) (by decide) (by decide) (by decide), px 65 (by decide) (by decide) (by decide)]; exact ⟨(K.1 i hi).1, rfl, (K.1 i hi).2⟩
    · rw [A3.1 213 (by decide), A3.1 214 (by decide)]; exact K.2.1 i hi
    · rw [pr 128 (by decide) (by decide) (by decide) (by decide) (by decide), qr 175 (by decide) (by decide) (by decide)]; exact ⟨rfl, rfl⟩
    · rw [pr 62 (by decide) (by decide) (by decide) (by decide) (by decide), pr 129 (by decide) (by decide) (by decide) (by decide) (by decide), qr 180 (by decide) (by decide) (by decide), qr 187 (by decide) (by decide) (by decide), qr 188 (by decide) (by decide) (by decide), qr 189 (by decide) (by decide) (by decide)]; exact ⟨⟨rfl, rfl⟩, rfl, rfl, rfl, rfl⟩
    · rw [i29, xA.2.1 18 (by decide), pr 123 (by decide) (by decide) (by decide) (by decide) (by decide), px 63 (by decide) (by decide) (by decide), pr 64 (by decide) (by decide) (by decide) (by decide) (by decide), px 65 (by decide) (by decide) (by decide), A3.1 213 (by decide), A3.1 214 (by decide)]
      exact ⟨(K.2.2 hb).1, (K.2.2 hb).2, (m.1 hb).2.2⟩
    · rw [pr 62 (by decide) (by decide) (by decide) (by decide) (by decide), pr 128 (by decide) (by decide) (by decide) (by decide) (by decide), pr 64 (by decide) (by decide) (by decide) (by decide) (by decide), qr 175 (by decide) (by decide) (by decide), qr 180 (by decide) (by decide) (by decide), qr 187 (by decide) (by decide) (by decide), c19]
      exact ⟨rfl, rfl, rfl, rfl, rfl, fun l a b => by omega, fun l _ _ => ⟨fun h => .inl h, fun h => by rcases h with h | h; exact h; omega⟩⟩
  · intro hb h0
    obtain ⟨z0, hop⟩ := A14 hb h0
    have p4 := P4 hb
    rw [len] at p4
    obtain ⟨s1, s2, _⟩ := p4.2
    have e53 : MX 5 3 = Mx 5 3 + 2 := by omega
    have r90 : Mq' 6 90 = Mq 6 90 := q6 90 (by decide)
    have c30 : Mx' 142 (Mx 5 3) = 30 := by rw [A9 _ s53 (by omega), x142]; simpa using s2
    have c71 : Mx' 142 (Mx 5 3 + 1) = Mq' 204 (Mq 6 75) := by
      rw [A9 _ (by omega) (by omega), x142, A13.1, x71]; exact s1
    rw [A5, r90, c19]
    refine ⟨z0, SEG_1 (w := w) A13.2.1 (.inr ⟨hw.1, hw.2, rfl⟩) c30 c71 (by omega) (by rw [e53] at hop; exact hop), fun q a b => ?_, fun q a b => ?_⟩
    · rw [c21]
      constructor
      · exact fun h => .inl h
      · rintro (h | ⟨k, hk, h1, h2⟩)
        · exact h
        · have ek : k = Mq 6 75 := by omega
          rw [ek, A13.2.1] at h1; omega
    · rw [c23]
      constructor
      · exact fun h => .inl h
      · rintro (h | ⟨k, hk, h1, h2⟩)
        · exact h
        · have ek : k = Mq 6 75 := by omega
          rw [ek, A13.2.1] at h1; omega
/-- a label -/
theorem LB_P [Inhabited gh_] (hp : PS b F Mx Mq a o me) (hj : b = 1 → Mx 1 19 < Mx 128 (Mx 1 18)) (hL : LBR b F F' Mx Mq Mx' Mq' a o me) : PRC b F F' Mx Mq Mx' Mq' a (a + 2) o o me ∧ (Mx' 5 3 = Mx 5 3 ∧ Mq' 6 75 = Mq 6 75 ∧ Mq' 6 90 = Mq 6 90 ∧ Mx' 1 21 = Mx 1 21 ∧ Mx' 1 23 = Mx 1 23 ∧ lc_ b Mx' = lc_ b Mx + 1) ∧ (b = 0 → Mx' 62 (10 * Mx 1 18 + lc_ b Mx) = a) ∧ (b = 1 → Mq' 6 13 = 0 → Mq 6 13 = 0) ∧ (b = 1 → Mx' 129 (10 * Mx 1 18 + Mx 1 19) = Mx 5 3 ∧ Mq' 188 (10 * Mx 1 18 + Mx 1 19) = Mq 6 75) := by
  have h01 := bl01 (PS_E hp)
  obtain ⟨⟨t1, t2, t3, t4, t5, t6⟩, g, l, s, ⟨u1, u2, u3⟩, w0, r, d, m, n⟩ := hp
  obtain ⟨L1, L2, L3, ⟨L4, L5⟩, L6, ⟨L7, L8⟩, L9, L10⟩ := hL
  have xA : XA Mx Mx' := ⟨Fr_sub L4 (by decide), fun i hi => L5 i (nm_i hi (by decide)) (nm_i hi (by decide)) (nm_i hi (by decide)) (nm_i hi (by decide)) (nm_i hi (by decide)), fun i _ => by rw [L4 5 (by decide)]⟩
  have qA : QA Mq Mq' := ⟨Fr_sub L7 (by decide), fun i hi => L8 i (nm_i hi (by decide)) (nm_i hi (by decide)) (nm_i hi (by decide))⟩
  have x53 : Mx' 5 3 = Mx 5 3 := by rw [L4 5 (by decide)]
  have i18 : Mx' 1 18 = Mx 1 18 := xA.2.1 18 (by decide)
  have i29 : Mx' 1 29 = Mx 1 29 := xA.2.1 29 (by decide)
  have c0 := l.1.1
  have lc : lc_ b Mx' = lc_ b Mx + 1 ∧ 0 ≤ lc_ b Mx ∧ lc_ b Mx < 10 := by
    unfold lc_
    rcases h01 with hb | hb
    · rw [if_pos hb, if_pos hb, i18]
      have := (L9 hb).1.1
      have q := L3.1.1
      rw [i18, this] at q
      omega
    · rw [if_neg (by omega), if_neg (by omega)]
      have := (L10 hb).2.2.1
      have := hj hb
      omega
  have qr : ∀ r : Nat, r ∉ [6, 175, 180, 187, 188, 189] → Mq' r = Mq r := fun r hr => L7 r hr
  refine ⟨⟨L1, L2, ⟨xA, qA⟩, ⟨⟨fun i _ _ => by rw [L4 142 (by decide)], fun r i hr _ _ => by rw [qr r (by unfold opL at hr; simp only [List.mem_cons, List.not_mem_nil, or_false] at hr ⊢; omega)], fun i _ _ => by rw [qr 209 (by decide)], fun i _ _ => by rw [qr 227 (by decide), qr 228 (by decide)]; exact ⟨rfl, rfl⟩, fun r i hr _ _ => by rw [qr r (by unfold rgR at hr; simp only [List.mem_cons, List.not_mem_nil, or_false] at hr ⊢; omega)], fun r i hr _ _ => by rw [qr r (by unfold dsR at hr; simp only [List.mem_cons, List.not_mem_nil, or_false] at hr ⊢; omega)], L8 102 (by decide) (by decide) (by decide)⟩, fun i hi => ?_, fun i _ => ?_, fun i hi => ?_, fun i hi => ?_⟩, ⟨by omega, by rw [L8 75 (by decide) (by decide) (by decide)]; omega, by rw [L8 104 (by decide) (by decide) (by decide)]; omega, ⟨by omega, by omega, fun _ => x53⟩, by rw [L8 90 (by decide) (by decide) (by decide)]; omega, by omega⟩, L3, ⟨fun hb => ?_, by rw [L5 21 (by decide) (by decide) (by decide) (by decide) (by decide)]; exact m.2.1, by rw [L5 23 (by decide) (by decide) (by decide) (by decide) (by decide)]; exact m.2.2⟩, by omega, fun hb => (L9 hb).2.2.2.2.1, fun hb => ?_⟩, ⟨x53, L8 75 (by decide) (by decide) (by decide), L8 90 (by decide) (by decide) (by decide), L5 21 (by decide) (by decide) (by decide) (by decide) (by decide), L5 23 (by decide) (by decide) (by decide) (by decide) (by decide), lc.1⟩, fun hb => ?_, fun hb h0 => (L10 hb).2.2.2.2.2.2.2.2.2.2 h0, fun hb => ⟨(L10 hb).2.2.2.1.1, (L10 hb).2.2.2.2.2.2.2.2.1.1⟩⟩
  · rw [L4 63 (by decide), L4 65 (by decide)]
    refine ⟨rfl, ?_, rfl⟩
    rcases h01 with hb | hb
    · rw [(L9 hb).2.2.1]
    · exact (L10 hb).2.2.2.2.1.2 i hi
  · rw [qr 213 (by decide), qr 214 (by decide)]; exact ⟨rfl, rfl⟩
  · rcases h01 with hb | hb
    · exact ⟨(L9 hb).1.2 i hi, (L9 hb).2.2.2.2.2.2.2.1 i hi⟩
    · rw [(L10 hb).2.1, (L10 hb).2.2.2.2.2.1]; exact ⟨rfl, rfl⟩
  · rcases h01 with hb | hb
    · have e : lc_ b Mx = Mx 128 (Mx 1 18) := by unfold lc_; rw [if_pos hb]
      have hi' : i ≠ 10 * Mx 1 18 + Mx 128 (Mx 1 18) := by omega
      have q := L9 hb
      rw [q.2.2.2.1, q.2.2.2.2.2.1, q.2.2.2.2.2.2.1]
      exact ⟨⟨q.2.1.2 i hi', rfl⟩, (q.2.2.2.2.2.2.2.2 i hi').1, (q.2.2.2.2.2.2.2.2 i hi').2, rfl, rfl⟩
    · have e : lc_ b Mx = Mx 1 19 := by unfold lc_; rw [if_neg (by omega)]
      have hi' : i ≠ 10 * Mx 1 18 + Mx 1 19 := by omega
      have q := L10 hb
      rw [q.1, q.2.2.2.2.2.2.1, q.2.2.2.2.2.2.2.1]
      exact ⟨⟨rfl, q.2.2.2.1.2 i hi'⟩, rfl, rfl, (q.2.2.2.2.2.2.2.2.2.1 i hi').1, (q.2.2.2.2.2.2.2.2.2.1 i hi').2⟩
  · have q := L10 hb
    have mm := m.1 hb
    have e : lc_ b Mx = Mx 1 19 := by unfold lc_; rw [if_neg (by omega)]
    have ob := or_bt (m := 10) (x := Mx 64 (Mx 1 29 - 1)) (k := Mx 1 19) (by decide) mm.2.2.1 mm.2.2.2 (by omega) (by have := lc.2; omega)
    rw [i29, i18, L4 123 (by decide), L4 63 (by decide), L4 65 (by decide), qr 213 (by decide), qr 214 (by decide), q.2.2.2.2.1.1]
    exact ⟨mm.1, mm.2.1, ob.1⟩
  · have q := L10 hb
    have mm := m.1 hb
    have e : lc_ b Mx = Mx 1 19 := by unfold lc_; rw [if_neg (by omega)]
    have ob := or_bt (m := 10) (x := Mx 64 (Mx 1 29 - 1)) (k := Mx 1 19) (by decide) mm.2.2.1 mm.2.2.2 (by omega) (by have := lc.2; omega)
    refine ⟨q.1, q.2.1, q.2.2.2.2.2.1, q.2.2.2.2.2.2.1, q.2.2.2.2.2.2.2.1, fun l a b => ?_, fun l a b => ?_⟩
    · rw [q.2.2.1] at b
      rw [show l = Mx 1 19 by omega]; exact q.2.2.2.2.2.2.2.2.1.2
    · rw [q.2.2.2.2.1.1, ob.2 l a, q.2.2.1]
      constructor
      · rintro (h | h)
        · exact .inl h
        · exact .inr (by omega)
      · rintro (h | h)
        · exact .inl h
        · exact .inr (by omega)
  · have e : lc_ b Mx = Mx 128 (Mx 1 18) := by unfold lc_; rw [if_pos hb]
    rw [e]; exact (L9 hb).2.1.1
end PA
end T133_pa
section T134_ew
/-! an e whose sort is told: X.e against Q.wanted(0) -/
section EW
variable {dq n : Nat} {b F : Int} {Mx Mq M : mm_} {a o f cc w : Int} {cd : List Int} {fm : List (Int × Int)} {K : Int → mm_ → Prop} {Kv : mm_ → Prop} {Qt : qt_}
theorem x_146v [Inhabited gh_] (hn : n ≤ 12) (ho : o = 12 - (n : Int)) (h : EQ9 b F Mx Mq a o f fm cc cd) (hS : b = 1 → ES (Mx 70) 0 o a ≠ none)
    (hK : ∀ Mx' Mq' a' y l s t bd, WP n b F Mx Mq Mx' Mq' a a' o f fm cc cd y l (t - 1) → ES (Mx 70) 0 o a = some a' → (Mq' 6 107 = t ∧ Mq' 6 108 = Mx 71 a ∧ Mq' 6 109 = bd) → (bd = 0 ∨ bd = 1) → (b = 1 → (bd = 0 → s = t - 1 ∧ 1 ≤ t ∧ t ≤ 3) ∧ (bd = 1 → s = -1 ∧ Mq' 6 13 ≠ 0)) → (∀ (Kq : Int → mm_ → Prop) (Qtq : qt_), Kq (Mq 6 104) Mq' → Tr_ wd0 pg0 (dq + 12) 270 [.inr (.inr 6), .inl 0] Mq (ri_ Kq) Qtq) → K s Mx')
    (hQ : b = 0 → ∀ Mx', XF Mx Mx' → (∀ (Kq : Int → mm_ → Prop) (Qtq : qt_), (∀ M', sp_ M' → in9_ M' → M' 6 13 = Mx' 1 4 → P14 Mx' M' → QF Mq M' → Kq (-1) M') → Tr_ wd0 pg0 (dq + 12) 270 [.inr (.inr 6), .inl 0] Mq (ri_ Kq) Qtq) → Qt 8 Mx') :
    Tr_ wd0 pg0 (9 * n + 13) 146 [.inr (.inr 1)] Mx (ri_ K) Qt := by
  have h9 := h
  obtain ⟨hT, hVT, hER, hXE, hf, hsf, hf0, hf1⟩ := h9
  have ha := ER_a hER
  have hgo := ER_goq hER
  refine e_top (dq := dq) hn ho h hS ?_ ?_
  · intro s Mx' Ms a' c' y t bd l hP hs hS4 hq
    have hP9 := hP
    obtain ⟨u1, u2, u3, u4, u5, u6, u7, ⟨u8, u9, u10, u11⟩, ⟨u12, u13⟩, u14, u15⟩ := hP9
    have ha' := ER_a u4
    have hQM : QF Mq Ms := QF_tr e0_QF u3
    have h104 : Ms 6 104 = f + (l.length + fm.length : Int) := by rw [u5.2.2.2.2.2.2.1]; simp only [List.length_append]; push_cast; rfl
    have hsf' : stF (pu_ (eF_ Ms t (Mx 71 a) bd) 0 0) f ((0, 0) :: (l ++ fm)) := by
      have e1 : QE (eF_ Ms t (Mx 71 a) bd) [] [(t, Mx 71 a, bd)] [c'] f (l ++ fm) := QE_sc (QE_sc (QE_sc u5 (by decide) (by decide) (by decide) (by decide)) (by decide) (by decide) (by decide) (by decide)) (by decide) (by decide) (by decide) (by decide)
      exact (pu_QE (x := 0) (y := 0) e1).2.2.2.2.2.2.2
    have p104 : pu_ (eF_ Ms t (Mx 71 a) bd) 0 0 6 104 = f + (l.length + fm.length + 1 : Int) := by unfold pu_; rw [up_at, eF_6 (by decide) (by decide) (by decide), h104]; omega
    have pER : ER b F Mx' (pu_ (eF_ Ms t (Mx 71 a) bd) 0 0) a' o := by
      refine ER_Q u4 ?_ ?_ ?_ ?_ ?_ <;> rw [pu_6 (by decide), eF_6 (by decide) (by decide) (by decide)]
    have pQG : QG Mq (pu_ (eF_ Ms t (Mx 71 a) bd) 0 0) := QG_tr (QG_QF hQM) (QG_tr eF_QG (QG_QF pu_QF))
    have pfq : fqq_ (pu_ (eF_ Ms t (Mx 71 a) bd) 0 0) = fqq_ Ms := by unfold fqq_; rw [pu_6 (by decide), pu_6 (by decide), eF_6 (by decide) (by decide) (by decide), eF_6 (by decide) (by decide) (by decide)]
    have hfe0 : fqq_ (e0_ Mq) = fqq_ Mq := by unfold fqq_; rw [e0_6 (by decide) (by decide) (by decide), e0_6 (by decide) (by decide) (by decide)]
    have hqw : ∀ (Kq : Int → mm_ → Prop) (Qtq : qt_), Kq (Mq 6 104) (wQ_ Ms t (Mx 71 a) bd (-1)) → Tr_ wd0 pg0 (dq + 12) 270 [.inr (.inr 6), .inl (-1 + 1)] Mq (ri_ Kq) Qtq := fun Kq Qtq hk => q_270 hgo (ER_goq u4) (by rw [h104]; omega) u6 (by decide) hq hk
    have e1 : wQ_ Ms t (Mx 71 a) bd (-1) = pu_ (eF_ Ms t (Mx 71 a) bd) 0 0 := by unfold wQ_; rw [if_pos (.inl rfl)]
    rw [e1] at hqw
    have e107 : pu_ (eF_ Ms t (Mx 71 a) bd) 0 0 6 107 = t := by rw [pu_6 (by decide)]; unfold eF_; rw [up_off (by decide), up_off (by decide), up_at]
    have e108 : pu_ (eF_ Ms t (Mx 71 a) bd) 0 0 6 108 = Mx 71 a := by rw [pu_6 (by decide)]; unfold eF_; rw [up_off (by decide), up_at]
    have e109 : pu_ (eF_ Ms t (Mx 71 a) bd) 0 0 6 109 = bd := by rw [pu_6 (by decide)]; unfold eF_; rw [up_at]
    have bad : b = 1 → bd = 1 → kk_ (pu_ (eF_ Ms t (Mx 71 a) bd) 0 0 6 13) (pu_ (eF_ Ms t (Mx 71 a) bd) 0 0 6 14) < 8 * Mx 71 a' := fun hb h => by
      have e := ((u14 hb).2 h).2.2
      rw [pu_6 (by decide), pu_6 (by decide), eF_6 (by decide) (by decide) (by decide), eF_6 (by decide) (by decide) (by decide)]
      exact e
    have ga' : gd_ Mx a' := gd_c (XF_70 u2 (r := 70) (by decide) (by decide) (by decide)).symm u4.1
    refine hK Mx' _ a' y l s t bd ⟨u1, u2, pQG, pER, p104, hsf', u7, u8, u9, u11, ⟨by omega, u13⟩, fun hb => ?_⟩ hS4 ⟨e107, e108, e109⟩ u6 (fun hb => ⟨fun h => ?_, fun h => ⟨hs hb h, fun h13 => ?_⟩⟩) hqw
    · rcases u6 with h | h
      · have e := (u14 hb).1 h
        left
        exact ⟨t, fun _ => by omega, ⟨e.2.1, e.2.2.1⟩, by rw [pfq, e.2.2.2.2, hfe0], e.2.2.2.1, by rw [u10 hb h, er_c e0_QF], fun st D hD => ty_c e0_QF l st _ (u15 hb h st D hD)⟩
      · exact .inr (bad hb h)
    · have e := (u14 hb).1 h
      exact ⟨e.1, e.2.1, e.2.2.1⟩
    · have := bad hb h
      unfold kk_ at this
      rw [if_pos h13] at this
      have := tk_p hT ga'
      omega
  · intro hb Mx' hx he
    refine hQ hb Mx' hx fun Kq Qtq hk => ?_
    refine t_270 fun V hV hW => b_270_0 (Tr_mono _) hV hW 0 Mq ?_
    refine q_227g hgo ?_
    rw [if_pos rfl]
    refine he _ _ fun M' h1 h2 h3' h4 h5 => ?_
    refine q_227s h1 ?_
    rw [if_neg (by decide)]
    exact ri_i (hk M' h1 h2 h3' h4 h5)
theorem x_146w [Inhabited gh_] (hn : n ≤ 12) (ho : o = 12 - (n : Int)) (hT : Tks Mx Mq) (hV : VT Mx Mq) (hE : ER b F Mx Mq a o) (hf : 0 ≤ Mq 6 104 ∧ Mq 6 104 ≤ 1500 + a) (hS : b = 1 → ES (Mx 70) 0 o a ≠ none)
    (hK : ∀ Mx' Mq' a' s t bd, WR b F Mx Mq Mx' Mq' a a' o (t - 1) → ES (Mx 70) 0 o a = some a' → (Mq' 6 107 = t ∧ Mq' 6 108 = Mx 71 a ∧ Mq' 6 109 = bd) → (bd = 0 ∨ bd = 1) → (b = 1 → (bd = 0 → s = t - 1 ∧ 1 ≤ t ∧ t ≤ 3) ∧ (bd = 1 → s = -1 ∧ Mq' 6 13 ≠ 0)) → (∀ (Kq : Int → mm_ → Prop) (Qtq : qt_), Kq (Mq 6 104) Mq' → Tr_ wd0 pg0 (dq + 12) 270 [.inr (.inr 6), .inl 0] Mq (ri_ Kq) Qtq) → K s Mx')
    (hQ : b = 0 → ∀ Mx', XF Mx Mx' → (∀ (Kq : Int → mm_ → Prop) (Qtq : qt_), (∀ M', sp_ M' → in9_ M' → M' 6 13 = Mx' 1 4 → P14 Mx' M' → QF Mq M' → Kq (-1) M') → Tr_ wd0 pg0 (dq + 12) 270 [.inr (.inr 6), .inl 0] Mq (ri_ Kq) Qtq) → Qt 8 Mx') :
    Tr_ wd0 pg0 (9 * n + 13) 146 [.inr (.inr 1)] Mx (ri_ K) Qt := by
  obtain ⟨fm, f1, f2⟩ := ex_F Mq 0 (Mq 6 104).toNat
  obtain ⟨cd, c1, c2⟩ := ex_X Mx 0 (Mx 5 3).toNat
  have h53 : 0 ≤ Mx 5 3 := (ER_st hE).1
  have hX : XE Mx 0 cd := ⟨by omega, c2⟩
  have h104 : Mq 6 104 = 0 + (fm.length : Int) := by omega
  refine x_146v (dq := dq) hn ho (f := 0) (fm := fm) (cc := 0) (cd := cd) ⟨hT, hV, hE, hX, h104, f2, by omega, by omega⟩ hS ?_ hQ
  intro Mx' Mq' a' y l s t bd hP hs e1 e2 e3 hq
  exact hK Mx' Mq' a' s t bd (WP_WR hn hE.2.2.2.2.2.2.2.2.1 hX h104 f2 hT hP) hs e1 e2 e3 hq
end EW
end T134_ew
section T135_rg
/-! bounds and ranges -/
/-- only what Q stands at and its fault -/
def QN (M M' : mm_) : Prop := (∀ r : Nat, r ≠ 6 → M' r = M r) ∧ ∀ i : Int, i ≠ 12 → i ≠ 13 → i ≠ 14 → M' 6 i = M 6 i
theorem QN_rf [Inhabited gh_] {M : mm_} : QN M M := ⟨fun _ _ => rfl, fun _ _ _ _ => rfl⟩
theorem QN_tr [Inhabited gh_] {M M1 M2 : mm_} (h1 : QN M M1) (h2 : QN M1 M2) : QN M M2 := ⟨fun r h => (h2.1 r h).trans (h1.1 r h), fun i a b c => (h2.2 i a b c).trans (h1.2 i a b c)⟩
theorem QN_nx [Inhabited gh_] {M : mm_} : QN M (nx_ M) := ⟨fun r h => nx_ne h, fun i h _ _ => nx_6 h⟩
theorem QN_Qn [Inhabited gh_] {b k p : Int} {M : mm_} : QN M (Qn_ M b k p) := ⟨fun r h => Qn_r h, fun i _ h1 h2 => Qn_6 h1 h2⟩
theorem QN_QF [Inhabited gh_] {M M' : mm_} (h : QN M M') : QF M M' := ⟨fun r hr => h.1 r (fun e => hr (by rw [e]; decide)), fun i h1 h2 h3 _ _ _ _ _ => h.2 i h1 h2 h3⟩
section RG
variable {d dq n : Nat} {b F : Int} {Mx Mq Mx1 Mq1 M : mm_} {a a1 o x : Int} {K : Int → mm_ → Prop} {Kv G : mm_ → Prop} {Qt : qt_} {V : vv_}
theorem y_125 [Inhabited gh_] (hT : Tks Mx Mq) (hE : ER b F Mx Mq a o) (hS : b = 1 → tS (Mx 70) 101 a ≠ none) (hg : Mx 70 a = 101 → a < 1200 → ER b F (nX_ Mx) (nx_ Mq) (a + 1) o → K (Mx 73 a) (nX_ Mx)) (hr : b = 0 → Mx 70 a = 101 → a = 1200 → Qt 8 (flX_ Mx 2 a)) (hw : b = 0 → Mx 70 a ≠ 101 → Qt 8 (flX_ Mx 1 a)) : Tr_ wd0 pg0 (d + 4) 125 [.inr (.inr 1)] Mx (ri_ K) Qt := by
  have e3 := hE.2.1
  have hb := bl01 hE
  refine x_125 (ER_iX hE) (fun h1 h2 => ?_) (fun h1 => ?_) (fun h1 h2 => ?_)
  · rw [e3] at h1 h2 ⊢
    exact hg h1 h2 (ER_go hE h2 (by omega)).1
  · rw [e3] at h1 ⊢
    rcases hb with hb | hb
    · exact hw hb h1
    · exact absurd (tS_n (hS hb)).1 h1
  · rw [e3] at h1 h2 ⊢
    rcases hb with hb | hb
    · exact hr hb h1 h2
    · have := (tS_n (hS hb)).2; omega
theorem j_249t [Inhabited gh_] (hT : Tks Mx Mq) (hE : ER b F Mx Mq a o) (hk : Mx 70 a = 101) (h12 : a < 1200) (h : K (Mx 73 a) (nx_ Mq)) : Tr_ wd0 pg0 (d + 3) 249 [.inr (.inr 6)] Mq (ri_ K) Qt := by
  obtain ⟨e1, e2, e3, e4, e5, e6⟩ := ER_k hT hE
  have q := (hT a hE.1).2.2.1 hk
  refine q_249g (ER_goq hE) e4 (e5 h12) ((kq_u e1).mpr hk) ?_
  rw [hE.2.2.1, q.1, w32_id (by omega) (by omega)]; exact h
theorem j_249r [Inhabited gh_] (hT : Tks Mx Mq) (hE : ER b F Mx Mq a o) (hb : b = 0) (hk : Mx 70 a = 101) (h12 : a = 1200) (h : ∀ v, K v (bf_ Mq 2 (Mx 71 a))) : Tr_ wd0 pg0 (d + 3) 249 [.inr (.inr 6)] Mq (ri_ K) Qt := by
  obtain ⟨e1, e2, e3, e4, e5, e6⟩ := ER_k hT hE
  exact q_249r (ER_ok hE hb) (e6 h12) ((kq_u e1).mpr hk) (by rw [e2]; exact h _)
theorem j_249w [Inhabited gh_] (hT : Tks Mx Mq) (hE : ER b F Mx Mq a o) (hb : b = 0) (hk : Mx 70 a ≠ 101) (h : ∀ v, K v (bf_ Mq 1 (Mx 71 a))) : Tr_ wd0 pg0 (d + 3) 249 [.inr (.inr 6)] Mq (ri_ K) Qt := by
  obtain ⟨e1, e2, e3, e4, e5, e6⟩ := ER_k hT hE
  exact q_249w (ER_ok hE hb) e3 (fun c => hk ((kq_u e1).mp c)) (by rw [e2]; exact h _)
/-- X and Q have gone on, without a note -/
def GN (Mx Mq Mx' Mq' : mm_) : Prop := ((∀ r : Nat, r ≠ 1 → Mx' r = Mx r) ∧ ∀ i : Int, i ≠ 3 → Mx' 1 i = Mx 1 i) ∧ ((∀ r : Nat, r ≠ 6 → Mq' r = Mq r) ∧ ∀ i : Int, i ≠ 12 → Mq' 6 i = Mq 6 i)
theorem GN_1 [Inhabited gh_] : GN Mx Mq (nX_ Mx) (nx_ Mq) := ⟨⟨fun r h => nX_ne h, fun i h => nX_1 h⟩, ⟨fun r h => nx_ne h, fun i h => nx_6 h⟩⟩
theorem GN_tr [Inhabited gh_] {Mx2 Mq2 : mm_} (h1 : GN Mx Mq Mx1 Mq1) (h2 : GN Mx1 Mq1 Mx2 Mq2) : GN Mx Mq Mx2 Mq2 := ⟨⟨fun r h => (h2.1.1 r h).trans (h1.1.1 r h), fun i h => (h2.1.2 i h).trans (h1.1.2 i h)⟩, ⟨fun r h => (h2.2.1 r h).trans (h1.2.1 r h), fun i h => (h2.2.2 i h).trans (h1.2.2 i h)⟩⟩
theorem y_165 [Inhabited gh_] (hT : Tks Mx Mq) (hE : ER b F Mx Mq a o) (hS : b = 1 → boS (Mx 70) a ≠ none)
    (hK : ∀ Mx' Mq' a' v, GN Mx Mq Mx' Mq' → Tks Mx' Mq' → ER b F Mx' Mq' a' o → (a < a' ∧ a' ≤ a + 2) → boS (Mx 70) a = some a' → (-1000000000 < v ∧ v < 1000000000) → (∀ (K' : Int → mm_ → Prop) (Qtq : qt_), K' v Mq' → Tr_ wd0 pg0 (dq + 4) 294 [.inr (.inr 6)] Mq (ri_ K') Qtq) → K v Mx')
    (hQ : b = 0 → ∀ Mx', XF Mx Mx' → (∀ (K' : Int → mm_ → Prop) (Qtq : qt_), (∀ v M', SQ Mx' Mq M' → K' v M') → Tr_ wd0 pg0 (dq + 4) 294 [.inr (.inr 6)] Mq (ri_ K') Qtq) → Qt 8 Mx') :
    Tr_ wd0 pg0 (d + 5) 165 [.inr (.inr 1)] Mx (ri_ K) Qt := by
  refine t_165 fun V hV hW => b_165_0 (Tr_mono _) hV hW Mx ?_
  refine y_117 hE (by decide) (fun k1 => ?_) (fun k1 => ?_)
  · -- a minus
    rw [if_neg (by decide)]
    have k1' : Mx 70 a = 245 := k1
    have eS : boS (Mx 70) a = (gS a).bind (tS (Mx 70) 101) := by unfold boS; rw [if_pos k1']
    rw [eS] at hS
    refine y_105 hE (by omega) (fun hb => by intro e; have := hS hb; rw [e] at this; exact this rfl) (fun h12 hE1 => ?_) (fun hb h12 => ?_)
    rotate_left
    · have hsp := SQ_bf hE hb (k := 2) (by decide) (QA_rf (M := Mq))
      refine hQ hb _ fl_XF fun K' Qtq hk9 => t_294 fun V hV hW => b_294_0 (Tr_mono _) hV hW Mq (j_242r hT hE hb (by decide) k1 h12 (q_249s hsp.1 ?_))
      rw [if_neg (by decide)]
      exact ri_i (hk9 _ _ hsp)
    have hT1 : Tks (nX_ Mx) (nx_ Mq) := Tks_c nX_XF nx_QF hT
    have e70 : nX_ Mx 70 = Mx 70 := nX_ne (by decide)
    have e73 : nX_ Mx 73 = Mx 73 := nX_ne (by decide)
    rw [gS_e h12, Option.bind_some] at hS
    have pre : ∀ (K' : Int → mm_ → Prop) (Qtq : qt_), Tr_ wd0 pg0 (dq + 3) 249 [.inr (.inr 6)] (nx_ Mq) (ri_ fun v2 M2 => (if (1 : Int) = 0 then ri_ K' [.inl v2] M2 else ri_ K' [.inl (w32 (-v2))] M2)) Qtq → Tr_ wd0 pg0 (dq + 4) 294 [.inr (.inr 6)] Mq (ri_ K') Qtq := fun K' Qtq hq => t_294 fun V hV hW => b_294_0 (Tr_mono _) hV hW Mq (j_242t hT hE (by decide) k1 h12 hq)
    refine y_125 hT1 hE1 (fun hb => by rw [e70]; exact hS hb) (fun k2 h13 hE2 => ?_) (fun hb k2 h13 => ?_) (fun hb k2 => ?_)
    · rw [if_neg (by decide)]
      have q := (hT1 (a + 1) hE1.1).2.2.1 k2
      rw [w32_id (by omega) (by omega)]
      refine ri_i (hK _ (nx_ (nx_ Mq)) (a + 1 + 1) _ (GN_tr GN_1 GN_1) (Tks_c nX_XF nx_QF hT1) hE2 (by omega) ?_ (by omega) (fun K' Qtq hk9 => pre _ _ (j_249t hT1 hE1 k2 h13 ?_)))
      · rw [eS, gS_e h12, Option.bind_some, tS_e (by rw [← e70]; exact k2) h13]
      · rw [if_neg (by decide), w32_id (by omega) (by omega)]; exact ri_i hk9
    · have hsp := SQ_bf hE1 hb (k := 2) (by decide) (QF_QA (M := Mq) nx_QF)
      refine hQ hb _ (XF_tr nX_XF fl_XF) fun K' Qtq hk9 => pre _ _ (j_249r hT1 hE1 hb k2 h13 fun v => ?_)
      rw [if_neg (by decide)]; exact ri_i (hk9 _ _ hsp)
    · have hsp := SQ_bf hE1 hb (k := 1) (by decide) (QF_QA (M := Mq) nx_QF)
      refine hQ hb _ (XF_tr nX_XF fl_XF) fun K' Qtq hk9 => pre _ _ (j_249w hT1 hE1 hb k2 fun v => ?_)
      rw [if_neg (by decide)]; exact ri_i (hk9 _ _ hsp)
  · rw [if_pos rfl]
    have k1' : Mx 70 a ≠ 245 := k1
    have eS : boS (Mx 70) a = tS (Mx 70) 101 a := by unfold boS; rw [if_neg k1']
    rw [eS] at hS
    have pre : ∀ (K' : Int → mm_ → Prop) (Qtq : qt_), Tr_ wd0 pg0 (dq + 3) 249 [.inr (.inr 6)] Mq (ri_ fun v2 M2 => (if (0 : Int) = 0 then ri_ K' [.inl v2] M2 else ri_ K' [.inl (w32 (-v2))] M2)) Qtq → Tr_ wd0 pg0 (dq + 4) 294 [.inr (.inr 6)] Mq (ri_ K') Qtq := fun K' Qtq hq => t_294 fun V hV hW => b_294_0 (Tr_mono _) hV hW Mq (j_242f hT hE (by decide) k1 hq)
    refine y_125 hT hE hS (fun k2 h13 hE2 => ?_) (fun hb k2 h13 => ?_) (fun hb k2 => ?_)
    · rw [if_pos rfl]
      have q := (hT a hE.1).2.2.1 k2
      refine ri_i (hK _ (nx_ Mq) (a + 1) _ GN_1 (Tks_c nX_XF nx_QF hT) hE2 (by omega) ?_ (by omega) (fun K' Qtq hk9 => pre _ _ (j_249t hT hE k2 h13 ?_)))
      · rw [eS, tS_e k2 h13]
      · rw [if_pos rfl]; exact ri_i hk9
    · have hsp := SQ_bf hE hb (k := 2) (by decide) (QA_rf (M := Mq))
      refine hQ hb _ fl_XF fun K' Qtq hk9 => pre _ _ (j_249r hT hE hb k2 h13 fun v => ?_)
      rw [if_pos rfl]; exact ri_i (hk9 _ _ hsp)
    · have hsp := SQ_bf hE hb (k := 1) (by decide) (QA_rf (M := Mq))
      refine hQ hb _ fl_XF fun K' Qtq hk9 => pre _ _ (j_249w hT hE hb k2 fun v => ?_)
      rw [if_pos rfl]; exact ri_i (hk9 _ _ hsp)
/-- Q keeps a range -/
def rgM_ (M : mm_) (dd lo hi : Int) : mm_ :=
  if M 222 dd < 0 then up_ (up_ (up_ (up_ (up_ (up_ (up_ M 216 (M 6 90) lo) 217 (M 6 90) hi) 218 (M 6 90) (M 6 75)) 219 (M 6 90) (-1)) 206 (M 220 dd) (M 6 90)) 222 dd (M 6 90)) 6 90 (M 6 90 + 1)
  else up_ (up_ (up_ (up_ (up_ (up_ (up_ M 216 (M 6 90) lo) 217 (M 6 90) hi) 218 (M 6 90) (M 6 75)) 219 (M 6 90) (-1)) 219 (M 222 dd) (M 6 90)) 222 dd (M 6 90)) 6 90 (M 6 90 + 1)
theorem q_293e [Inhabited gh_] {x2 dd lo hi : Int} (hV : Cl_ wd0 (Tr_ wd0 pg0 (d + 1)) V (rv_ Kv) Qt m_293) (hW : Wk_ V) (hg : go_ M) (hd : 0 ≤ dd ∧ dd < 14) (h90 : 0 ≤ M 6 90 ∧ M 6 90 < 1300) (hl : M 222 dd < 1300) (hc : 0 ≤ M 220 dd ∧ M 220 dd < 1300) (h : Kv (rgM_ M dd lo hi)) : V 124 [rr 6, ii dd, ii x2, ii lo, ii hi, none] [] M := by
  refine b_293_124 (Tr_mono _) hV hW _ _ _ _ _ (q_227g hg ?_)
  rw [if_pos rfl]
  unfold rgM_ at h
  rw [w32_id (by omega) (by omega)]
  refine ⟨h90, h90, h90, h90, hd, ?_⟩
  by_cases c : M 222 dd < 0
  · rw [if_pos c] at h ⊢
    exact ⟨hd, hc, hd, rv_i h⟩
  · rw [if_neg c] at h ⊢
    exact ⟨hd, by omega, hd, rv_i h⟩
theorem q_293s [Inhabited gh_] {x2 dd lo hi : Int} (hV : Cl_ wd0 (Tr_ wd0 pg0 (d + 1)) V (rv_ Kv) Qt m_293) (hW : Wk_ V) (hs : sp_ M) (h : Kv M) : V 124 [rr 6, ii dd, ii x2, ii lo, ii hi, none] [] M := by
  refine b_293_124 (Tr_mono _) hV hW _ _ _ _ _ (q_227s hs ?_)
  rw [if_neg (by decide)]
  exact rv_i h
theorem nt_s [Inhabited gh_] {k p : Int} (hs : sp_ M) : nt_ M k p = M := by unfold nt_; rw [if_pos hs.2]
end RG
end T135_rg
section T136_rg
/-! a range of X and of Q -/
def RR [Inhabited gh_] (b F : Int) (Mx Mq Mx' Mq' : mm_) (a a' o dd lo hi : Int) : Prop := a < a' ∧ ER b F Mx' Mq' a' o ∧ XF Mx Mx' ∧ (∃ Nq, QN Mq Nq ∧ Mq' = rgM_ Nq dd lo hi) ∧ Mx' 5 3 = Mx 5 3 + (if b = 0 then 0 else 2) ∧ (∀ i, i < Mx 5 3 → Mx' 142 i = Mx 142 i) ∧ (b = 1 → Mx' 142 (Mx 5 3) = lo ∧ Mx' 142 (Mx 5 3 + 1) = hi) ∧ (Mx 1 7 ≤ Mx' 1 7 ∧ Mx' 1 7 ≤ Mx 1 7 + 2) ∧ (b = 1 → Mq' 6 13 = 0 → Mq 6 13 = 0)
section RG
variable {d dq n : Nat} {b F : Int} {Mx Mq Mx1 Mq1 M N : mm_} {a a1 o x dd lo hi : Int} {K : Int → mm_ → Prop} {Kv G : mm_ → Prop} {Qt : qt_} {V : vv_}
theorem rgM_6 [Inhabited gh_] {i : Int} (h : i ≠ 90) : rgM_ M dd lo hi 6 i = M 6 i := by
  unfold rgM_; split
  · rw [up_off h, up_ne (by decide), up_ne (by decide), up_ne (by decide), up_ne (by decide), up_ne (by decide), up_ne (by decide)]
  · rw [up_off h, up_ne (by decide), up_ne (by decide), up_ne (by decide), up_ne (by decide), up_ne (by decide), up_ne (by decide)]
/-- two words put -/
theorem PX2 [Inhabited gh_] (h18 : M 1 8 = b) (h01 : b = 0 ∨ b = 1) (u w : Int) : XF M (pX_ (pX_ M u) w) ∧ pX_ (pX_ M u) w 1 = M 1 ∧ pX_ (pX_ M u) w 5 3 = M 5 3 + (if b = 0 then 0 else 2) ∧ (∀ i, i < M 5 3 → pX_ (pX_ M u) w 142 i = M 142 i) ∧ (b = 1 → pX_ (pX_ M u) w 142 (M 5 3) = u ∧ pX_ (pX_ M u) w 142 (M 5 3 + 1) = w) ∧ (b = 0 → pX_ (pX_ M u) w = M) := by
  have P := PXL_1 (v := w) h18 h01 (PXL_1 (v := u) h18 h01 (PXL_0 (b := b) (M := M)))
  obtain ⟨P1, P2, P3, P4, P5, P6, P7⟩ := P
  refine ⟨P1, P2, ?_, P5, fun hb => ?_, P3⟩
  · rcases h01 with hb | hb
    · rw [P3 hb, if_pos hb]; omega
    · rw [(P4 hb).1, if_neg (by omega)]; rfl
  · obtain ⟨s1, s2, _⟩ := (P4 hb).2
    exact ⟨by simpa using s2, s1⟩
theorem y_164t [Inhabited gh_] {x1 : Int} (hT : Tks Mx Mq) (hVT : VT Mx Mq) (hE : ER b F Mx Mq a o) (hk : Mx 70 a = 31 ∨ Mx 70 a = 32) (hS : b = 1 → a < 1200) (hd : 0 ≤ dd ∧ dd < 14) (h90 : 0 ≤ Mq 6 90 ∧ Mq 6 90 < 1300) (hl : Mq 222 dd < 1300) (hc : 0 ≤ Mq 220 dd ∧ Mq 220 dd < 1300) (hx1 : b = 1 → Mq 223 dd = x1 + 1) (hfl : Mx 1 7 + 2 + 8 * (1201 - a) ≤ 1000001000 - (gg_ : Int)) (hst : Mx 5 3 + 2 ≤ 9 * a + 1000)
    (hK : ∀ Mx' Mq' lo hi, RR b F Mx Mq Mx' Mq' a (a + 1) o dd lo hi → a < 1200 → (∀ (Kv : mm_ → Prop) (Qtq : qt_), Kv Mq' → Tr_ wd0 pg0 (dq + 5) 293 [.inr (.inr 6), .inl dd, .inl (Mx 71 a)] Mq (rv_ Kv) Qtq) → Kv Mx')
    (hQ : b = 0 → ∀ Mx', XF Mx Mx' → (∀ (Kv : mm_ → Prop) (Qtq : qt_), (∀ M', SQ Mx' Mq M' → Kv M') → Tr_ wd0 pg0 (dq + 5) 293 [.inr (.inr 6), .inl dd, .inl (Mx 71 a)] Mq (rv_ Kv) Qtq) → Qt 8 Mx') :
    Tr_ wd0 pg0 (d + 3) 164 [.inr (.inr 1), .inl x1] Mx (rv_ Kv) Qt := by
  have h01 := bl01 hE
  have e3 := hE.2.1
  have ha := ER_a hE
  have hpa := tk_p hT hE.1
  have h16 : Mq 6 16 = b := hE.2.2.2.2.2.2.2.1
  have h8 : Mx 1 8 = b := hE.2.2.2.2.2.2.1
  obtain ⟨e1, e2, e3q, e4, e5, e6⟩ := ER_k hT hE
  obtain ⟨v, hv⟩ : ∃ v : Int, v = if Mx 70 a = 31 then 1 else 0 := ⟨_, rfl⟩
  obtain ⟨kk, hkk⟩ : ∃ kk : Int, kk = if x1 = 0 then 5 else 0 := ⟨_, rfl⟩
  have hkc : kk = 0 ∨ (3 ≤ kk ∧ kk ≤ 6) := by rw [hkk]; split <;> omega
  obtain ⟨E1, E2, E3⟩ := ER_m (k := kk) (tk := a) hE hkc hpa (by omega)
  -- Q up to take
  have preA : ∀ (MQ : mm_), ((a < 1200 ∧ MQ = nx_ Mq) ∨ (b = 0 ∧ a = 1200 ∧ MQ = bf_ Mq 2 (Mx 71 a))) → ∀ (Kv : mm_ → Prop) (Qtq : qt_), (∀ V : vv_, Cl_ wd0 (Tr_ wd0 pg0 (dq + 4)) V (rv_ Kv) Qtq m_293 → Wk_ V → (if MQ 223 dd = 1 then Tr_ wd0 pg0 (dq + 4) 236 [.inr (.inr 6), .inl 5, .inl (Mx 71 a)] MQ (rv_ fun M2 => V 124 [rr 6, ii dd, ii (Mx 71 a), ii v, ii v, none] [] M2) Qtq else V 124 [rr 6, ii dd, ii (Mx 71 a), ii v, ii v, none] [] MQ)) → Tr_ wd0 pg0 (dq + 5) 293 [.inr (.inr 6), .inl dd, .inl (Mx 71 a)] Mq (rv_ Kv) Qtq := by
    intro MQ hMQ Kv Qtq hq
    refine t_293 fun V hV hW => b_293_0 (Tr_mono _) hV hW _ _ _ ?_
    have tk : V 33 [rr 6, ii dd, ii (Mx 71 a), ii v, none, none] [] Mq := by
      refine b_293_33 (Tr_mono _) hV hW _ _ _ _ ?_
      have := hq V hV hW
      rcases hMQ with ⟨h12, e⟩ | ⟨hb, h12, e⟩
      · rw [e] at this
        exact q_230g (ER_goq hE) e4 (e5 h12) ⟨hd, this⟩
      · rw [e] at this
        exact q_230r (ER_ok hE hb) (e6 h12) (by rw [e2]; exact ⟨hd, this⟩)
    rcases hk with k | k
    · refine j_229t hT hE (by decide) k ?_
      rw [if_neg (by decide)]
      refine j_229t hT hE (by decide) k ?_
      rw [if_neg (by decide)]
      rw [if_pos k] at hv; rw [hv] at tk; exact tk
    · refine j_229f hT hE (by decide) (by omega) ?_
      rw [if_pos rfl]
      refine j_229t hT hE (by decide) k ?_
      rw [if_neg (by decide)]
      refine j_229f hT hE (by decide) (by omega) ?_
      rw [if_pos rfl]
      rw [if_neg (by omega)] at hv; rw [hv] at tk; exact tk
  refine t_164 fun V hV hW => b_164_0 (Tr_mono _) hV hW _ _ ?_
  -- X behind its note
  have X40 : V 40 [rr 1, ii x1, ii a, none, none, none] [] (Xn_ Mx b kk a) := by
    have P := PX2 (M := Xn_ Mx b kk a) E1.2.2.2.2.2.2.1 h01 v v
    obtain ⟨P1, P2, P3, P4, P5, P6⟩ := P
    have x70 : Xn_ Mx b kk a 70 = Mx 70 := Xn_r (by decide)
    have x71 : Xn_ Mx b kk a 71 = Mx 71 := Xn_r (by decide)
    have x53 : Xn_ Mx b kk a 5 = Mx 5 := Xn_r (by decide)
    have x142 : Xn_ Mx b kk a 142 = Mx 142 := Xn_r (by decide)
    have hv2 : Xn_ Mx b kk a 1 2 = 5 := by rw [Xn_1 (by decide) (by decide) (by decide)]; exact hVT.1
    rw [x53] at P3 P4 P5
    have l53 : pX_ (pX_ (Xn_ Mx b kk a) v) v 5 3 ≤ Mx 5 3 + 2 ∧ Mx 5 3 ≤ pX_ (pX_ (Xn_ Mx b kk a) v) v 5 3 := by rw [P3]; split <;> omega
    have Ea : ER b F (pX_ (Xn_ Mx b kk a) v) (Qn_ Mq b kk (Mx 71 a)) a o := ER_pX E1 (by rw [x53]; omega)
    have pa53 : pX_ (Xn_ Mx b kk a) v 5 3 ≤ Mx 5 3 + 1 := by
      unfold pX_; split
      · rw [x53]; omega
      · rw [up_at, x53]; omega
    have Eb : ER b F (pX_ (pX_ (Xn_ Mx b kk a) v) v) (Qn_ Mq b kk (Mx 71 a)) a o := ER_pX Ea (by omega)
    have y70 : pX_ (pX_ (Xn_ Mx b kk a) v) v 70 = Mx 70 := by rw [XF_70 P1 (by decide) (by decide) (by decide)]; exact x70
    have ya70 : pX_ (Xn_ Mx b kk a) v 70 = Mx 70 := by rw [pX_r (by decide) (by decide)]; exact x70
    have go : ∀ (G : mm_ → Prop), (∀ M', G M' → Kv M') → Tr_ wd0 pg0 (d + 2) 105 [.inr (.inr 1)] (pX_ (pX_ (Xn_ Mx b kk a) v) v) (rv_ fun M5 => rv_ Kv [] M5) Qt := by
      intro G hG
      refine y_105 Eb (by rw [y70]; omega) (fun hb => by unfold gS; rw [if_pos (hS hb)]; exact fun e => by cases e) (fun h12 hE5 => ?_) (fun hb h12 => ?_)
      · have qc : nx_ (Qn_ Mq b kk (Mx 71 a)) = Qn_ (nx_ Mq) b kk (Mx 71 a) := nx_Qn
        have Nq : QN Mq (nx_ (Qn_ Mq b kk (Mx 71 a))) := QN_tr QN_Qn QN_nx
        have er5 : ER b F (nX_ (pX_ (pX_ (Xn_ Mx b kk a) v) v)) (rgM_ (nx_ (Qn_ Mq b kk (Mx 71 a))) dd v v) (a + 1) o := ER_Q hE5 (rgM_6 (by decide)) (rgM_6 (by decide)) (rgM_6 (by decide)) (rgM_6 (by decide)) (rgM_6 (by decide))
        refine rv_i (hK _ (rgM_ (nx_ (Qn_ Mq b kk (Mx 71 a))) dd v v) v v ⟨by omega, er5, XF_tr Xn_XF (XF_tr P1 nX_XF), ⟨_, Nq, rfl⟩, ?_, fun i hi => ?_, fun hb => ?_, ?_, fun hb h0 => ?_⟩ h12 (fun Kv Qtq hk9 => preA _ (.inl ⟨h12, rfl⟩) _ _ fun V hV hW => ?_))
        · rw [nX_ne (by decide), P3]
        · rw [nX_ne (by decide), P4 i hi, x142]
        · rw [nX_ne (by decide)]; exact P5 hb
        · rw [nX_1 (by decide), P2]; omega
        · rw [rgM_6 (by decide), nx_6 (by decide)] at h0
          exact (E3 hb h0).2
        · have fin : ∀ M', M' = nx_ (Qn_ Mq b kk (Mx 71 a)) → V 124 [rr 6, ii dd, ii (Mx 71 a), ii v, ii v, none] [] M' := fun M' e => by
            rw [e]
            refine q_293e hV hW (ER_goq hE5) hd ?_ ?_ ?_ hk9
            · rw [Nq.2 90 (by decide) (by decide) (by decide)]; exact h90
            · rw [Nq.1 222 (by decide)]; exact hl
            · rw [Nq.1 220 (by decide)]; exact hc
          have e223 : nx_ Mq 223 dd = Mq 223 dd := by rw [nx_ne (by decide)]
          rw [e223]
          by_cases c : Mq 223 dd = 1
          · rw [if_pos c]
            refine q_236 (fin _ ?_)
            rw [qc]
            unfold Qn_
            rcases h01 with hb | hb
            · rw [if_pos (.inl hb)]
              unfold nt_; rw [if_pos (by rw [nx_6 (by decide)]; omega)]
            · have : x1 = 0 := by have := hx1 hb; omega
              rw [if_pos this] at hkk
              rw [if_neg (by omega), hkk]
          · rw [if_neg c]
            refine fin _ ?_
            rw [qc]
            unfold Qn_
            rcases h01 with hb | hb
            · rw [if_pos (.inl hb)]
            · have : x1 ≠ 0 := by have := hx1 hb; omega
              rw [if_neg this] at hkk
              rw [if_pos (.inr hkk)]
      · have ex : Xn_ Mx b kk a = Mx := by unfold Xn_; rw [if_pos (.inl hb)]
        have e0 := P6 hb
        rw [ex] at e0
        rw [ex, e0]
        have hsp := SQ_bf hE hb (k := 2) (by decide) (QA_rf (M := Mq))
        refine hQ hb _ fl_XF fun Kv Qtq hk9 => preA _ (.inr ⟨hb, h12, rfl⟩) _ _ fun V hV hW => ?_
        split
        · refine q_236 ?_
          rw [nt_s hsp.1]; exact q_293s hV hW hsp.1 (hk9 _ hsp)
        · exact q_293s hV hW hsp.1 (hk9 _ hsp)
    refine b_164_40 (Tr_mono _) hV hW _ _ _ ?_
    have st1 := ER_st E1
    have st2 := ER_st Ea
    have va2 : pX_ (Xn_ Mx b kk a) v 1 2 = 5 := by rw [pX_1]; exact hv2
    rcases hk with k | k
    · rw [if_pos k] at hv
      refine y_103 E1 (fun _ => ?_) (fun e => absurd (by rw [x70]; exact k) e)
      rw [if_neg (by decide)]
      rw [hv] at *
      refine x_138 hv2 st1.1 st1.2 ?_
      refine y_103 Ea (fun _ => ?_) (fun e => absurd (by rw [ya70]; exact k) e)
      rw [if_neg (by decide)]
      exact x_138 va2 st2.1 st2.2 (go Kv fun _ h => h)
    · rw [if_neg (by omega)] at hv
      refine y_103 E1 (fun e => by rw [x70] at e; omega) (fun _ => ?_)
      rw [if_pos rfl]
      rw [hv] at *
      refine x_138 hv2 st1.1 st1.2 ?_
      refine y_103 Ea (fun e => by rw [ya70] at e; omega) (fun _ => ?_)
      rw [if_pos rfl]
      exact x_138 va2 st2.1 st2.2 (go Kv fun _ h => h)
  have note : bl_ (Mx 1 8) → (if Mx 1 8 = 0 then V 40 [rr 1, ii x1, ii a, none, none, none] [] Mx else (if x1 = 0 then Tr_ wd0 pg0 (d + 2) 116 [.inr (.inr 1), .inl 5, .inl a] Mx (rv_ fun M2 => V 40 [rr 1, ii x1, ii a, none, none, none] [] M2) Qt else V 40 [rr 1, ii x1, ii a, none, none, none] [] Mx)) := by
    intro _
    unfold Xn_ at X40
    by_cases c : Mx 1 8 = 0
    · rw [if_pos c]; rw [if_pos (.inl (by omega))] at X40; exact X40
    · rw [if_neg c]
      by_cases c2 : x1 = 0
      · rw [if_pos c2]
        rw [if_pos c2] at hkk
        rw [if_neg (by omega), hkk] at X40
        exact x_116 ha.1 (by omega) (ER_fl hE).1 (ER_fl hE).2 X40
      · rw [if_neg c2]
        rw [if_neg c2] at hkk
        rw [if_pos (.inr hkk)] at X40; exact X40
  rw [e3]
  rcases hk with k | k
  · refine y_103 hE (fun _ => ?_) (fun e => absurd k e)
    rw [if_neg (by decide)]; exact note
  · refine y_103 hE (fun e => by omega) (fun _ => ?_)
    rw [if_pos rfl]
    refine y_103 hE (fun _ => ?_) (fun e => absurd k e)
    rw [if_neg (by decide)]; exact note
end RG
end T136_rg
