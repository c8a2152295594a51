section T336_pl
/-! the plan that runs -/
/-- X's plan, at the places of the one that is read -/
def swc (M : mm_) : mm_ := fun r => if r = 5 then M 4 else if 112 ≤ r ∧ r ≤ 144 then M (r - 33) else fun _ => 0
def tfL : List Int := [17, 18, 19, 62, 63, 75, 76, 90, 104]
/-- Q's tables -/
def tbN (N : mm_) : mm_ := fun r => if r = 6 then (fun i => if i ∈ tfL then N 6 i else 0) else if 152 ≤ r ∧ r ≤ 234 then N r else fun _ => 0
/-- the cells of parameters; cells lie apart -/
def PPC (N : mm_) (T : Int) : Prop := (∀ v, 0 ≤ v → v < N 170 T → N 183 (8 * T + v) = 0 ∧ N 184 (8 * T + v) = v) ∧ ∀ i k, 0 ≤ i → i < k → k < N 171 T → N 184 (8 * T + i) + (if 1 < N 183 (8 * T + i) then N 183 (8 * T + i) else 1) ≤ N 184 (8 * T + k)
def PTY (M N : mm_) (T : Int) : Prop := ((M 120 T = N 168 T ∧ 0 ≤ N 168 T ∧ N 168 T ≤ 200) ∧ (M 121 T = N 169 T ∧ 0 ≤ N 169 T ∧ N 169 T ≤ 200)) ∧ (M 122 T = N 170 T ∧ 0 ≤ N 170 T ∧ N 170 T ≤ 3 ∧ N 170 T ≤ N 171 T ∧ PPC N T) ∧ ((M 123 T = N 174 T ∧ 0 ≤ N 174 T ∧ N 174 T ≤ 12) ∧ (M 124 T = N 171 T ∧ 0 ≤ N 171 T ∧ N 171 T ≤ 8) ∧ (M 125 T = N 172 T ∧ 0 ≤ N 172 T ∧ N 172 T ≤ 16) ∧ (M 126 T = N 173 T ∧ 0 ≤ N 173 T ∧ N 173 T ≤ 3) ∧ (M 128 T = N 175 T ∧ 0 ≤ N 175 T ∧ N 175 T ≤ 10))
  ∧ (∀ k, 0 ≤ k → k < N 171 T → (M 130 (8 * T + k) + 1 = N 182 (8 * T + k) ∧ M 131 (8 * T + k) = N 183 (8 * T + k) ∧ M 132 (8 * T + k) = N 184 (8 * T + k)) ∧ (0 ≤ N 183 (8 * T + k) ∧ N 183 (8 * T + k) ≤ 8) ∧ 0 ≤ N 184 (8 * T + k) ∧ N 184 (8 * T + k) + (if 1 < N 183 (8 * T + k) then N 183 (8 * T + k) else 1) ≤ N 172 T)
  ∧ ATP M N T (N 176 T) (M 127 T) ∧ ∀ l, 0 ≤ l → l < N 175 T → ATP M N T (N 188 (10 * T + l)) (M 129 (10 * T + l))
def PST (M N : mm_) : Prop := (0 ≤ N 6 62 ∧ xsf N (N 6 62).toNat = M 5 4 ∧ M 5 4 ≤ 600 ∧ N 6 62 ≤ 600 ∧ N 6 63 ≤ 600) ∧ ∀ k, 0 ≤ k → k < N 6 62 → ((0 ≤ N 192 k ∧ N 192 k < 6) ∧ (0 ≤ N 193 k ∧ N 193 k ≤ 3) ∧ (0 ≤ N 198 k ∧ N 198 k ≤ N 199 k ∧ N 199 k ≤ N 6 63) ∧ (2 ≤ N 193 k → N 199 k = N 198 k))
  ∧ ∀ j, 0 ≤ j → j < nsK N k → (M 133 (xsf N k.toNat + j) = N 193 k ∧ M 134 (xsf N k.toNat + j) = N 192 k ∧ MB (M 123 (N 192 k)) (M 135 (xsf N k.toNat + j)) (N 194 k) ∧ (N 193 k < 2 → M 136 (xsf N k.toNat + j) = N 200 (N 198 k + j))) ∧ SRO M N k (xsf N k.toNat + j) (N 198 k + j)
def PLB (M N : mm_) : Prop := ((M 5 0 = N 6 17 ∧ 0 ≤ N 6 17 ∧ N 6 17 ≤ 20) ∧ (M 5 1 = N 6 18 ∧ 0 ≤ N 6 18 ∧ N 6 18 ≤ 10) ∧ (M 5 2 = N 6 19 ∧ 0 ≤ N 6 19 ∧ N 6 19 ≤ 6))
  ∧ (∀ T, 0 ≤ T → T < N 6 19 → PTY M N T) ∧ (∀ r, 0 ≤ r → r < N 6 18 → RT2 M N r ∧ M 114 (2 * r) ≠ -1 ∧ M 114 (2 * r + 1) ≠ -1 ∧ M 115 r ≤ M 116 r) ∧ PST M N
  ∧ (∀ s, 0 ≤ s → s < N 6 17 → (0 ≤ N 156 s ∧ N 156 s ≤ 3 ∧ M 112 s = N 156 s) ∧ ∀ i, 0 ≤ i → i < N 156 s → N 157 (3 * s + i) = M 113 (3 * s + i) + 1 ∧ 0 ≤ M 113 (3 * s + i) ∧ M 113 (3 * s + i) ≤ 2)
  ∧ (M 5 3 ≤ 11200 ∧ N 6 75 ≤ 1200 ∧ N 6 90 ≤ 1200 ∧ N 6 104 ≤ 2400)
/-- X's plan and Q's tables -/
def PLr (M N : mm_) : Prop := PLB (swc M) (tbN N)
def xuL : List Nat := [0, 10, 11, 12, 13, 14, 15, 16, 17, 18, 19, 20, 21, 22, 23, 24, 25, 26]
def xfL : List Int := [7, 8, 10, 25, 26, 27, 28, 29, 30, 31, 32, 33, 34, 35, 36, 37, 38, 41, 42, 45, 46, 47, 49, 50]
def quL : List Nat := [6, 239, 240, 241, 242, 243, 244]
def qfL : List Int := [127, 129, 131, 132, 133, 134, 135, 136, 137, 138, 139, 142, 143, 144, 145, 148, 149, 151, 152, 153]
/-- what a run may change -/
def XRF (M M' : mm_) : Prop := (∀ r : Nat, r ∉ xuL → M' r = M r) ∧ ∀ i : Int, i ∉ xfL → M' 0 i = M 0 i
def QRF (N N' : mm_) : Prop := (∀ r : Nat, r ∉ quL → N' r = N r) ∧ ∀ i : Int, i ∉ qfL → N' 6 i = N 6 i
section PLa
variable {z : Int} {M N M' N' M1 N1 : mm_} {r k t a b c sg sn rc p : Int}
theorem XRF_rf [Inhabited fz_] : XRF M M := ⟨fun _ _ => rfl, fun _ _ => rfl⟩
theorem QRF_rf [Inhabited fz_] : QRF N N := ⟨fun _ _ => rfl, fun _ _ => rfl⟩
theorem XRF_tr [Inhabited fz_] (h : XRF M M1) (g : XRF M1 M') : XRF M M' := ⟨fun r hr => (g.1 r hr).trans (h.1 r hr), fun i hi => (g.2 i hi).trans (h.2 i hi)⟩
theorem QRF_tr [Inhabited fz_] (h : QRF N N1) (g : QRF N1 N') : QRF N N' := ⟨fun r hr => (g.1 r hr).trans (h.1 r hr), fun i hi => (g.2 i hi).trans (h.2 i hi)⟩
theorem XRF_up [Inhabited fz_] {q : Nat} {i v : Int} (h : q ∈ xuL) (h0 : q = 0 → i ∈ xfL) : XRF M (up_ M q i v) := ⟨fun r hr => up_ne (fun e => hr (by rw [e]; exact h)), fun j hj => by
  by_cases e : (0 : Nat) = q
  · subst e; exact upo (fun e2 => hj (by rw [e2]; exact h0 rfl))
  · rw [up_ne e]⟩
theorem QRF_up [Inhabited fz_] {q : Nat} {i v : Int} (h : q ∈ quL) (h0 : q = 6 → i ∈ qfL) : QRF N (up_ N q i v) := ⟨fun r hr => up_ne (fun e => hr (by rw [e]; exact h)), fun j hj => by
  by_cases e : (6 : Nat) = q
  · subst e; exact upo (fun e2 => hj (by rw [e2]; exact h0 rfl))
  · rw [up_ne e]⟩
theorem XRF_wr [Inhabited fz_] {q : Nat} {f : Int → Int} (h : q ∈ xuL) (h0 : q ≠ 0) : XRF M (wr_ M q f) := ⟨fun r hr => wr_ne (fun e => hr (by rw [e]; exact h)), fun j _ => by rw [wr_ne (fun e => h0 e.symm)]⟩
theorem QRF_wr [Inhabited fz_] {q : Nat} {f : Int → Int} (h : q ∈ quL) (h0 : q ≠ 6) : QRF N (wr_ N q f) := ⟨fun r hr => wr_ne (fun e => hr (by rw [e]; exact h)), fun j _ => by rw [wr_ne (fun e => h0 e.symm)]⟩
theorem swc_e [Inhabited fz_] (h : XRF M M') : swc M' = swc M := by
  funext r
  unfold swc
  split
  · rw [h.1 4 (by decide)]
  · split
    · rename_i c
      exact h.1 _ (fun e => by simp only [xuL, List.mem_cons, List.not_mem_nil, or_false] at e; omega)
    · rfl
theorem tbN_e [Inhabited fz_] (h : QRF N N') : tbN N' = tbN N := by
  funext r
  unfold tbN
  split
  · funext i
    split
    · rename_i hi
      exact h.2 i (fun e => by simp only [tfL, qfL, List.mem_cons, List.not_mem_nil, or_false] at hi e; omega)
    · rfl
  · split
    · exact h.1 r (fun e => by simp only [quL, List.mem_cons, List.not_mem_nil, or_false] at e; omega)
    · rfl
theorem PLr_c [Inhabited fz_] (h : PLr M N) (hx : XRF M M') (hq : QRF N N') : PLr M' N' := by
  unfold PLr; rw [swc_e hx, tbN_e hq]; exact h
theorem swc_r [Inhabited fz_] {q : Nat} (h : 79 ≤ q) (h' : q ≤ 111) : swc M (q + 33) = M q := by
  unfold swc; rw [if_neg (by omega), if_pos (by omega)]; congr 1
theorem swc_5 [Inhabited fz_] : swc M 5 = M 4 := rfl
theorem tbN_r [Inhabited fz_] {q : Nat} (h : 152 ≤ q) (h' : q ≤ 234) : tbN N q = N q := by unfold tbN; rw [if_neg (by omega), if_pos ⟨h, h'⟩]
theorem tbN_6 [Inhabited fz_] {i : Int} (h : i ∈ tfL) : tbN N 6 i = N 6 i := by unfold tbN; rw [if_pos rfl, if_pos h]
theorem XRF_ev [Inhabited fz_] : XRF M (evX M k a b c) := ⟨fun r hr => EvX_ev.1 r (fun e => hr (by rw [e]; decide)) (fun e => hr (by rw [e]; decide)), fun i hi => EvX_ev.2 i (fun e => hi (by rw [e]; decide)) (fun e => hi (by rw [e]; decide))⟩
theorem QRF_ev [Inhabited fz_] : QRF N (evQ N k a b c) := ⟨fun r hr => EvQ_ev.1 r (fun e => hr (by rw [e]; decide)) (fun e => hr (by rw [e]; decide)), fun i hi => EvQ_ev.2 i (fun e => hi (by rw [e]; decide)) (fun e => hi (by rw [e]; decide))⟩
theorem XRF_lo [Inhabited fz_] : XRF M (loX M p a b) := ⟨fun r hr => LoX_lo.1 r (fun e => hr (by rw [e]; decide)) (fun e => hr (by rw [e]; decide)), fun i hi => LoX_lo.2 i (fun e => hi (by simp only [xfL, List.mem_cons, List.not_mem_nil, or_false] at e ⊢; (clear hi; lia)))⟩
theorem QRF_lo [Inhabited fz_] : QRF N (loQ N p a b) := ⟨fun r hr => LoQ_lo.1 r (fun e => hr (by rw [e]; decide)) (fun e => hr (by rw [e]; decide)), fun i hi => LoQ_lo.2 i (fun e => hi (by simp only [qfL, List.mem_cons, List.not_mem_nil, or_false] at e ⊢; (clear hi; lia)))⟩
theorem XRF_q [Inhabited fz_] : XRF M (qX M k sg sn a b c) := ⟨fun r hr => qX_r (fun e => hr (by rw [e]; decide)) (fun e => hr (by rw [e]; decide)), fun i _ => by rw [qX_r (by decide) (by decide)]⟩
theorem QRF_q [Inhabited fz_] : QRF N (qQ N k sg sn) := ⟨fun r hr => qQ_r (fun e => hr (by rw [e]; decide)), fun i _ => by rw [qQ_r (by decide)]⟩
theorem XRF_cm [Inhabited fz_] : XRF M (cmX_ M k sg sn a b c) := by unfold cmX_; split; exact XRF_lo; exact XRF_q
theorem QRF_cm [Inhabited fz_] : QRF N (cmQ_ N k sg sn p) := by unfold cmQ_; split; exact QRF_lo; exact QRF_q
theorem XRF_out [Inhabited fz_] : XRF M (outX M sg sn a b c) := ⟨fun r hr => outX_r (fun e => hr (by rw [e]; decide)) (fun e => hr (by rw [e]; decide)), fun i hi => outX_0 (fun e => hi (by simp only [xfL, List.mem_cons, List.not_mem_nil, or_false] at e ⊢; (clear hi; lia)))⟩
theorem QRF_out [Inhabited fz_] : QRF N (outQ N sg sn) := ⟨fun r hr => outQ_r (fun e => hr (by rw [e]; decide)) (fun e => hr (by rw [e]; decide)), fun i hi => outQ_6 (fun e => hi (by simp only [qfL, List.mem_cons, List.not_mem_nil, or_false] at e ⊢; (clear hi; lia)))⟩
theorem XRF_a [Inhabited fz_] : XRF M (aX M sg sn rc a b c) := by
  unfold aX
  split
  · split
    · exact XRF_tr XRF_ev XRF_out
    · exact XRF_ev
  · split
    · exact XRF_lo
    · exact XRF_cm
theorem QRF_a [Inhabited fz_] : QRF N (aQ N sg sn rc) := by
  unfold aQ
  split
  · split
    · exact QRF_tr QRF_ev QRF_out
    · exact QRF_ev
  · split
    · exact QRF_lo
    · exact QRF_cm
theorem XRF_l [Inhabited fz_] : XRF M (lX M r) := by unfold lX shX; exact XRF_tr (XRF_tr (XRF_up (by decide) (fun e => absurd e (by decide))) (XRF_wr (by decide) (by decide))) XRF_a
theorem QRF_l [Inhabited fz_] : QRF N (lQ N r) := by
  unfold lQ shQ
  exact QRF_tr (QRF_tr (QRF_tr (QRF_tr (QRF_up (by decide) (fun e => absurd e (by decide))) (QRF_up (by decide) (fun e => absurd e (by decide)))) (QRF_up (by decide) (fun e => absurd e (by decide)))) (QRF_wr (by decide) (by decide))) QRF_a
/-- an arrival leaves routes, timers, pids as they are -/
theorem aX_s [Inhabited fz_] {q : Nat} (h : q ∉ [0, 14, 15, 23, 24]) : aX M sg sn rc a b c q = M q := by
  have e : ∀ x : Nat, x ∈ [0, 14, 15, 23, 24] → q ≠ x := fun x hx e => h (by rw [e]; exact hx)
  have ev : ∀ (A : mm_) (k a b c : Int), evX A k a b c q = A q := fun A k a b c => EvX_ev.1 q (e 0 (by decide)) (e 23 (by decide))
  unfold aX
  split
  · split
    · rw [outX_r (e 0 (by decide)) (e 24 (by decide)), ev]
    · exact ev _ _ _ _ _
  · split
    · exact LoX_lo.1 q (e 0 (by decide)) (e 23 (by decide))
    · unfold cmX_
      split
      · exact LoX_lo.1 q (e 0 (by decide)) (e 23 (by decide))
      · exact qX_r (e 14 (by decide)) (e 15 (by decide))
theorem aX_0 [Inhabited fz_] {i : Int} (h : i ∉ [27, 32, 33, 34, 35, 36, 37]) : aX M sg sn rc a b c 0 i = M 0 i := by
  have e : ∀ x : Int, x ∈ [27, 32, 33, 34, 35, 36, 37] → i ≠ x := fun x hx e => h (by rw [e]; exact hx)
  have ev : ∀ (A : mm_) (k a b c : Int), evX A k a b c 0 i = A 0 i := fun A k a b c => EvX_ev.2 i (e 35 (by decide)) (e 36 (by decide))
  have lo : ∀ (p s b : Int), loX M p s b 0 i = M 0 i := fun p s b => LoX_lo.2 i (fun c => h (by simp only [List.mem_cons, List.not_mem_nil, or_false] at c ⊢; (clear h e ev; lia)))
  unfold aX
  split
  · split
    · rw [outX_0 (fun c => h (by simp only [List.mem_cons, List.not_mem_nil, or_false] at c ⊢; (clear h e ev lo; lia))), ev]
    · exact ev _ _ _ _ _
  · split
    · exact lo _ _ _
    · unfold cmX_
      split
      · exact lo _ _ _
      · rw [qX_r (by decide) (by decide)]
theorem lX_21 [Inhabited fz_] : lX M r 21 r = M 21 r - 1 := by unfold lX; rw [aX_s (by decide)]; unfold shX; rw [wr_ne (by decide), up_at]
end PLa
end T336_pl
section T337_du
/-! the run: timers come; what is due -/
def g0Q (N : mm_) : mm_ := up_ (up_ (up_ N 242 0 0) 242 1 0) 242 2 0
def rgX (M : mm_) (k t : Int) : mm_ := cmX_ (evX (up_ M 16 (3 * k + t) 0) 8 (M 10 k) (100 + t) (M 10 k)) k (100 + t) (M 10 k) 0 0 0
def rgQ (N : mm_) (k t : Int) : mm_ := cmQ_ (g0Q (evQ (up_ N 239 (sB k + 22 + t) (-1)) 8 (N 239 (sB k)) (100 + t) (N 239 (sB k)))) k (100 + t) (N 239 (sB k)) (N 239 (sB k))
section DUa
variable {z : Int} {M N M' N' : mm_} {r k t a b c sg sn rc p : Int}
theorem RU_2 [Inhabited fz_] (h : RU z M N) (hq : ∀ q : Nat, q ∉ [242, 243, 244] → N' q = N q) : RU z M N' := by
  have e6 := hq 6 (by decide)
  obtain ⟨h1, h2, h3, h4, h5⟩ := h
  exact ⟨RI_c h1 ⟨rfl, rfl⟩ (fun _ _ => rfl) (hq 239 (by decide)) (by rw [e6]) (fun q hq' => hq q (fun e => by simp only [List.mem_cons, List.not_mem_nil, or_false] at e hq'; omega)), RRt_c h2 rfl rfl (hq 239 (by decide)) (by rw [e6]), RSC_c h3 (fun _ _ => rfl) (fun i _ => by rw [e6]), ROU_c h4 (fun _ _ => rfl) rfl (fun i _ => by rw [e6]) (hq 241 (by decide)), REV_c h5 (fun _ _ => rfl) rfl (fun i _ => by rw [e6]) (hq 240 (by decide))⟩
theorem g0Q_r [Inhabited fz_] {q : Nat} (h : q ≠ 242) : g0Q N q = N q := by unfold g0Q; rw [up_ne h, up_ne h, up_ne h]
/-- a timer is off -/
theorem RU_of [Inhabited fz_] (h : RU z M N) (hk : 0 ≤ k ∧ k < M 0 7) (ht : 0 ≤ t ∧ t < 3) : RU z (up_ M 16 (3 * k + t) 0) (up_ N 239 (sB k + 22 + t) (-1)) := by
  obtain ⟨h1, h2, h3, h4, h5⟩ := h
  have n12 := h1.1
  have hB : sB k = 2 + 56 * k := rfl
  obtain ⟨i1, i2, i3, i4, j1, j4, j5⟩ := h1.2.2.1 k hk.1 hk.2
  have xr : ∀ q : Nat, q ≠ 16 → up_ M 16 (3 * k + t) 0 q = M q := fun q e => up_ne e
  have nr : ∀ q : Nat, q ≠ 239 → up_ N 239 (sB k + 22 + t) (-1) q = N q := fun q e => up_ne e
  have no : ∀ i, i ≠ sB k + 22 + t → up_ N 239 (sB k + 22 + t) (-1) 239 i = N 239 i := fun i e => upo e
  refine ⟨RI_k h1 hk ⟨by rw [xr 0 (by decide)], by rw [xr 0 (by decide)]⟩ (fun q hq i _ => by rw [xr q (fun e => by rw [e] at hq; revert hq; decide)]) (fun i _ => by rw [xr 13 (by decide)]) (fun i _ => by rw [xr 15 (by decide)]) (fun i hi => by rw [xr 17 (by decide), upo (by (clear hk h1 h2 h3 h4 h5 n12 hB i1 i2 i3 i4 j1 j4 j5 xr nr no; omega))]; exact ⟨rfl, rfl⟩) (fun i hi => no i (by (clear hk h1 h2 h3 h4 h5 n12 i1 i2 i3 i4 j1 j4 j5 xr nr no; omega))) (by rw [nr 6 (by decide)]) (fun q hq => nr q (fun e => by rw [e] at hq; revert hq; decide)) ?_, RRt_k h2 (xr 21 (by decide)) (xr 22 (by decide)) (fun i hi => no i (by (clear h1 h2 h3 h4 h5 i1 i2 i3 i4 j1 j4 j5 xr nr no; omega))) (by rw [nr 6 (by decide)]), RSC_c h3 (fun i _ => by rw [xr 0 (by decide)]) (fun i _ => by rw [nr 6 (by decide)]), ROU_c h4 (fun i _ => by rw [xr 0 (by decide)]) (xr 24 (by decide)) (fun i _ => by rw [nr 6 (by decide)]) (nr 241 (by decide)), REV_c h5 (fun i _ => by rw [xr 0 (by decide)]) (xr 23 (by decide)) (fun i _ => by rw [nr 6 (by decide)]) (nr 240 (by decide))⟩
  unfold IN
  rw [xr 10 (by decide), xr 11 (by decide), xr 12 (by decide), xr 18 (by decide), xr 19 (by decide), xr 20 (by decide), xr 0 (by decide), xr 13 (by decide), xr 14 (by decide), xr 15 (by decide), xr 17 (by decide), nr 6 (by decide), nr 172 (by decide), nr 173 (by decide), nr 174 (by decide), no (sB k) (by omega), no (sB k + 1) (by omega), no (sB k + 2) (by (clear hk h1 h2 h3 h4 h5 n12 hB i1 i2 i3 i4 j1 j4 j5 xr nr no; omega)), no (sB k + 3) (by (clear hk h1 h2 h3 h4 h5 n12 hB i1 i2 i3 i4 j1 j4 j5 xr nr no; omega)), no (sB k + 4) (by omega), no (sB k + 5) (by (clear hk h1 h2 h3 h4 h5 n12 hB i1 i2 i3 i4 j1 j4 j5 xr nr no; omega)), no (sB k + 25) (by (clear hk h1 h2 h3 h4 h5 n12 hB i1 i2 i3 i4 j1 j4 j5 xr nr no; lia))]
  refine ⟨i1, i2, ⟨fun i i0 i1 => by rw [no _ (by omega)]; exact i3.1 i i0 i1, fun i i0 i1 i2 => by rw [no _ (by omega)]; exact i3.2 i i0 i1 i2⟩, fun s s0 s1 => ?_, j1, fun i i0 i1 => by rw [no _ (by omega)]; exact j4 i i0 i1, fun i i0 i1 => by rw [no _ (by (clear hk h1 h2 h3 h4 h5 n12 hB i2 i3 i4 j4 j5 xr nr no i1; lia))]; exact j5 i i0 i1⟩
  by_cases e : s = t
  · rw [e, up_at, up_at]; exact ⟨.inr ⟨rfl, rfl⟩, fun _ => rfl⟩
  · rw [upo (by (clear hk ht h1 h2 h3 h4 h5 n12 hB i1 i2 i3 i4 j1 j4 j5 xr nr no s0 s1; lia)), upo (by (clear hk ht h1 h2 h3 h4 h5 n12 hB i1 i2 i3 i4 j1 j4 j5 xr nr no s0 s1; omega))]; exact i4 s s0 s1
theorem RU_rg [Inhabited fz_] (h : RU z M N) (hk : 0 ≤ k ∧ k < M 0 7) (ht : 0 ≤ t ∧ t < 3) : RU z (rgX M k t) (rgQ N k t) := by
  have hp := (h.1.2.2.1 k hk.1 hk.2).1.1
  unfold rgX rgQ
  rw [← hp]
  have h1 := RU_of h hk ht
  have h2 := RU_ev (k := 8) (a := M 10 k) (s := 100 + t) (b := M 10 k) h1
  have h3 : RU z (evX (up_ M 16 (3 * k + t) 0) 8 (M 10 k) (100 + t) (M 10 k)) (g0Q (evQ (up_ N 239 (sB k + 22 + t) (-1)) 8 (M 10 k) (100 + t) (M 10 k))) := RU_2 h2 (fun q hq => g0Q_r (fun e => hq (by rw [e]; decide)))
  refine RU_cm h3 ⟨hk.1, ?_⟩ ?_ ?_
  · rw [EvX_ev.2 7 (by decide) (by decide), up_ne (by decide)]; exact hk.2
  · unfold g0Q
    exact ⟨by rw [upo (by decide), upo (by decide), up_at], by rw [upo (by decide), up_at], up_at⟩
  · rw [EvX_ev.1 10 (by decide) (by decide), up_ne (by decide)]
theorem x_10 [Inhabited fz_] (h : RU z M N) (hk : 0 ≤ k ∧ k < M 0 7) (ht : 0 ≤ t ∧ t < 3) : Ex_ 4 10 [.inr (.inr 0), .inl k, .inl t] M [] (rgX M k t) := fun Qr Qt hq => t_10 fun V hV hW => b_10_0 (Tr_mono _) hV hW _ _ _ (by
  have n12 := h.1.1
  have h1 := RU_of h hk ht
  obtain ⟨b1, b2, b3⟩ := RU_b5 h1
  have h2 := RU_ev (k := 8) (a := M 10 k) (s := 100 + t) (b := M 10 k) h1
  rw [w32_id (x := 3 * k) (by omega) (by omega), w32_id (x := 3 * k + t) (by omega) (by omega), w32_id (x := 100 + t) (by omega) (by omega)]
  refine ⟨⟨by omega, .inl rfl⟩, by omega, by omega, Ex_le (d := 1) (by decide) (x_5 b1 b2 b3) _ _ (rv_i ⟨by omega, ?_⟩)⟩
  have e10 : evX (up_ M 16 (3 * k + t) 0) 8 (M 10 k) (100 + t) (M 10 k) 10 = M 10 := by rw [EvX_ev.1 10 (by decide) (by decide), up_ne (by decide)]
  rw [e10]
  refine x_8 h2 ⟨hk.1, ?_⟩ _ _ (rv_i hq)
  rw [EvX_ev.2 7 (by decide) (by decide), up_ne (by decide)]; exact hk.2)
theorem q_334 [Inhabited fz_] (h : RU z M N) (hk : 0 ≤ k ∧ k < M 0 7) (ht : 0 ≤ t ∧ t < 3) : Ex_ 3 334 [.inr (.inr 6), .inl k, .inl t] N [] (rgQ N k t) := fun Qr Qt hq => t_334 fun V hV hW => b_334_0 (Tr_mono _) hV hW _ _ _ (by
  have n12 := h.1.1
  have hB : sB k = 2 + 56 * k := rfl
  have hp := (h.1.2.2.1 k hk.1 hk.2).1.1
  have h1 := RU_of h hk ht
  obtain ⟨b1, b2, b3⟩ := RU_b324 h1
  have h2 := RU_ev (k := 8) (a := N 239 (sB k)) (s := 100 + t) (b := N 239 (sB k)) h1
  refine Ex_le (d := 1) (by decide) (q_323 (by omega)) _ _ (ri_i ⟨by omega, Ex_le (d := 1) (by decide) (q_323 (by omega)) _ _ (ri_i ?_)⟩)
  rw [w32_id (x := sB k + 22) (by omega) (by omega), w32_id (x := sB k + 22 + t) (by (clear h hq hV hW n12 hp h1 b1 b2 b3 h2; omega)) (by omega), w32_id (x := 100 + t) (by omega) (by omega)]
  refine ⟨by omega, Ex_le (d := 1) (by decide) (q_324 b1 b2 b3) _ _ (rv_i ?_)⟩
  unfold rgQ g0Q at hq
  have hm : ∀ A : mm_, RU z (evX (up_ M 16 (3 * k + t) 0) 8 (N 239 (sB k)) (100 + t) (N 239 (sB k))) A → 0 ≤ k ∧ k < evX (up_ M 16 (3 * k + t) 0) 8 (N 239 (sB k)) (100 + t) (N 239 (sB k)) 0 7 := fun A _ => by rw [EvX_ev.2 7 (by decide) (by decide), up_ne (by decide)]; exact hk
  generalize evQ (up_ N 239 (sB k + 22 + t) (-1)) 8 (N 239 (sB k)) (100 + t) (N 239 (sB k)) = N1 at *
  refine b_334_40 (Tr_mono _) hV hW _ _ _ _ _ ?_
  rw [if_pos (by decide), w32_id (x := (0 : Int) + 1) (by decide) (by decide)]
  refine ⟨by decide, ?_⟩
  refine b_334_40 (Tr_mono _) hV hW _ _ _ _ _ ?_
  rw [if_pos (by decide), w32_id (x := (0 : Int) + 1 + 1) (by decide) (by decide)]
  refine ⟨by decide, ?_⟩
  refine b_334_40 (Tr_mono _) hV hW _ _ _ _ _ ?_
  rw [if_pos (by decide), w32_id (x := (0 : Int) + 1 + 1 + 1) (by decide) (by decide)]
  refine ⟨by decide, ?_⟩
  refine b_334_40 (Tr_mono _) hV hW _ _ _ _ _ ?_
  rw [if_neg (by decide), w32_id (x := 100 + t) (by omega) (by omega)]
  rw [show up_ (up_ (up_ N1 242 0 0) 242 (0 + 1) 0) 242 (0 + 1 + 1) 0 = up_ (up_ (up_ N1 242 0 0) 242 1 0) 242 2 0 from rfl]
  have h3 : RU z (evX (up_ M 16 (3 * k + t) 0) 8 (N 239 (sB k)) (100 + t) (N 239 (sB k))) (up_ (up_ (up_ N1 242 0 0) 242 1 0) 242 2 0) := RU_2 h2 (fun q hq => by rw [up_ne (fun e => hq (by rw [e]; decide)), up_ne (fun e => hq (by rw [e]; decide)), up_ne (fun e => hq (by rw [e]; decide))])
  have hk1 := hm _ h3
  have j := (h3.1.2.2.1 _ hk1.1 hk1.2).2.2.2.2.1
  refine q_332 h3 hk1 _ _ (ri_i ?_)
  unfold cmQ_ at hq
  rw [j.2.2] at hq
  generalize evX (up_ M 16 (3 * k + t) 0) 8 (N 239 (sB k)) (100 + t) (N 239 (sB k)) = M1 at *
  by_cases c2 : M1 14 k = 6
  · rw [if_pos c2] at hq
    rw [if_pos c2, if_pos c2, if_pos rfl]
    exact q_333 h3 _ _ (rv_i hq)
  · rw [if_neg c2] at hq
    rw [if_neg c2, if_neg c2, if_neg (by decide)]; exact hq)
theorem XRF_rg [Inhabited fz_] : XRF M (rgX M k t) := by unfold rgX; exact XRF_tr (XRF_tr (XRF_up (by decide) (fun e => absurd e (by decide))) XRF_ev) XRF_cm
theorem QRF_g0 [Inhabited fz_] : QRF N (g0Q N) := by unfold g0Q; exact QRF_tr (QRF_tr (QRF_up (by decide) (fun e => absurd e (by decide))) (QRF_up (by decide) (fun e => absurd e (by decide)))) (QRF_up (by decide) (fun e => absurd e (by decide)))
theorem QRF_rg [Inhabited fz_] : QRF N (rgQ N k t) := by unfold rgQ; exact QRF_tr (QRF_tr (QRF_tr (QRF_up (by decide) (fun e => absurd e (by decide))) QRF_ev) QRF_g0) QRF_cm
/-- rings leave living and types -/
theorem rgX_s [Inhabited fz_] : rgX M k t 11 = M 11 ∧ rgX M k t 0 7 = M 0 7 ∧ rgX M k t 0 8 = M 0 8 := by
  unfold rgX cmX_
  have e : ∀ q : Nat, q ≠ 0 → q ≠ 23 → q ≠ 16 → evX (up_ M 16 (3 * k + t) 0) 8 (M 10 k) (100 + t) (M 10 k) q = M q := fun q h1 h2 h3 => by rw [EvX_ev.1 q h1 h2, up_ne h3]
  have e0 : ∀ i : Int, i ≠ 35 → i ≠ 36 → evX (up_ M 16 (3 * k + t) 0) 8 (M 10 k) (100 + t) (M 10 k) 0 i = M 0 i := fun i h1 h2 => by rw [EvX_ev.2 i h1 h2, up_ne (by decide)]
  split
  · rw [LoX_lo.1 11 (by decide) (by decide), LoX_lo.2 7 (by decide), LoX_lo.2 8 (by decide), e 11 (by decide) (by decide) (by decide), e0 7 (by decide) (by decide), e0 8 (by decide) (by decide)]; exact ⟨rfl, rfl, rfl⟩
  · rw [qX_r (by decide) (by decide), qX_r (by decide) (by decide), e 11 (by decide) (by decide) (by decide), e0 7 (by decide) (by decide), e0 8 (by decide) (by decide)]; exact ⟨rfl, rfl, rfl⟩
end DUa
end T337_du
section T339_mk
/-! the run: an instance more (X 31 | Q 322) -/
def mkA (M : mm_) : mm_ := if M 0 25 = 0 then up_ (up_ (up_ (up_ M 0 7 (M 0 7 + 1)) 10 (M 0 7) (M 0 8)) 0 8 (M 0 8 + 1)) 0 26 (w32 (M 0 26 + 1)) else up_ (up_ (up_ M 0 7 (M 0 7 + 1)) 10 (M 0 7) (M 0 8)) 0 8 (M 0 8 + 1)
def mkX0 (M : mm_) (T p : Int) : mm_ := up_ (up_ (up_ (wr_ (up_ (wr_ (up_ (up_ (mkA M) 11 (M 0 7) T) 12 (M 0 7) (-1)) 13 (flf (M 13) (16 * M 0 7) (16 * M 0 7 + 16) 0)) 14 (M 0 7) 0) 16 (flf (M 16) (3 * M 0 7) (3 * M 0 7 + 3) 0)) 18 (M 0 7) 0) 19 (M 0 7) p) 20 (M 0 7) 0
def mkF (f : Int → Int) (b T p : Int) : Int → Int := flf (su_ (su_ (su_ (su_ (flf f b (b + 56) 0) b (f 1)) (b + 1) T) (b + 2) (-1)) (b + 4) p) (b + 22) (b + 25) (-1)
def mkB (N : mm_) (T p : Int) : mm_ := up_ (up_ (wr_ N 239 (mkF (N 239) (sB (N 239 0)) T p)) 239 0 (N 239 0 + 1)) 239 1 (N 239 1 + 1)
def mkQ0 (N : mm_) (T p : Int) : mm_ := if N 6 127 = 0 then up_ (mkB N T p) 6 131 (w32 (N 6 131 + 1)) else mkB N T p
def mkX (M : mm_) (T p : Int) : mm_ := evX (mkX0 M T p) 0 (M 0 8) (-1) p
def mkQ (N : mm_) (T p : Int) : mm_ := evQ (mkQ0 N T p) 0 (N 239 1) (-1) p
section MKa
variable {z : Int} {M N M' N' : mm_} {T p k t : Int}
theorem mkA_r [Inhabited fz_] {q : Nat} (h : q ≠ 0) (h' : q ≠ 10) : mkA M q = M q := by unfold mkA; split <;> simp only [up_ne h, up_ne h']
theorem mkA_0 [Inhabited fz_] {i : Int} (h : i ∉ [7, 8, 26]) : mkA M 0 i = M 0 i := by
  have e : ∀ x : Int, x ∈ [7, 8, 26] → i ≠ x := fun x hx e => h (by rw [e]; exact hx)
  unfold mkA; split
  · rw [upo (e 26 (by decide)), upo (e 8 (by decide)), up_ne (by decide), upo (e 7 (by decide))]
  · rw [upo (e 8 (by decide)), up_ne (by decide), upo (e 7 (by decide))]
theorem mkA_7 [Inhabited fz_] : mkA M 0 7 = M 0 7 + 1 ∧ mkA M 0 8 = M 0 8 + 1 ∧ mkA M 0 26 = (if M 0 25 = 0 then w32 (M 0 26 + 1) else M 0 26) := by
  unfold mkA
  split
  · exact ⟨by rw [upo (by decide), upo (by decide), up_ne (by decide), up_at], by rw [upo (by decide), up_at], up_at⟩
  · exact ⟨by rw [upo (by decide), up_ne (by decide), up_at], up_at, by rw [upo (by decide), up_ne (by decide), upo (by decide)]⟩
theorem mkA_10 [Inhabited fz_] {i : Int} : mkA M 10 i = if i = M 0 7 then M 0 8 else M 10 i := by
  have e : mkA M 10 i = up_ (up_ M 0 7 (M 0 7 + 1)) 10 (M 0 7) (M 0 8) 10 i := by
    unfold mkA; split
    · rw [up_ne (by decide), up_ne (by decide)]
    · rw [up_ne (by decide)]
  rw [e]
  by_cases c : i = M 0 7
  · rw [if_pos c, c, up_at]
  · rw [if_neg c, upo c, up_ne (by decide)]
theorem mkX0_r [Inhabited fz_] {q : Nat} (h : q ∉ [0, 10, 11, 12, 13, 14, 16, 18, 19, 20]) : mkX0 M T p q = M q := by
  have e : ∀ x : Nat, x ∈ [0, 10, 11, 12, 13, 14, 16, 18, 19, 20] → q ≠ x := fun x hx e => h (by rw [e]; exact hx)
  unfold mkX0
  rw [up_ne (e 20 (by decide)), up_ne (e 19 (by decide)), up_ne (e 18 (by decide)), wr_ne (e 16 (by decide)), up_ne (e 14 (by decide)), wr_ne (e 13 (by decide)), up_ne (e 12 (by decide)), up_ne (e 11 (by decide)), mkA_r (e 0 (by decide)) (e 10 (by decide))]
theorem mkX0_0 [Inhabited fz_] {q : Nat} (h : q = 0 ∨ q = 10) : mkX0 M T p q = mkA M q := by
  unfold mkX0
  rw [up_ne (by omega), up_ne (by omega), up_ne (by omega), wr_ne (by omega), up_ne (by lia), wr_ne (by lia), up_ne (by lia), up_ne (by lia)]
theorem mkX0_s [Inhabited fz_] {i : Int} : (mkX0 M T p 11 i = if i = M 0 7 then T else M 11 i) ∧ (mkX0 M T p 12 i = if i = M 0 7 then -1 else M 12 i) ∧ (mkX0 M T p 14 i = if i = M 0 7 then 0 else M 14 i) ∧ (mkX0 M T p 18 i = if i = M 0 7 then 0 else M 18 i) ∧ (mkX0 M T p 19 i = if i = M 0 7 then p else M 19 i) ∧ (mkX0 M T p 20 i = if i = M 0 7 then 0 else M 20 i) := by
  unfold mkX0
  by_cases c : i = M 0 7
  · rw [if_pos c, if_pos c, if_pos c, if_pos c, if_pos c, if_pos c, c]
    refine ⟨?_, ?_, ?_, ?_, ?_, up_at⟩
    · rw [up_ne (by decide), up_ne (by decide), up_ne (by decide), wr_ne (by decide), up_ne (by decide), wr_ne (by decide), up_ne (by decide), up_at]
    · rw [up_ne (by decide), up_ne (by decide), up_ne (by decide), wr_ne (by decide), up_ne (by decide), wr_ne (by decide), up_at]
    · rw [up_ne (by decide), up_ne (by decide), up_ne (by decide), wr_ne (by decide), up_at]
    · rw [up_ne (by decide), up_ne (by decide), up_at]
    · rw [up_ne (by decide), up_at]
  · rw [if_neg c, if_neg c, if_neg c, if_neg c, if_neg c, if_neg c]
    refine ⟨?_, ?_, ?_, ?_, ?_, ?_⟩
    · rw [up_ne (by decide), up_ne (by decide), up_ne (by decide), wr_ne (by decide), up_ne (by decide), wr_ne (by decide), up_ne (by decide), upo c, mkA_r (by decide) (by decide)]
    · rw [up_ne (by decide), up_ne (by decide), up_ne (by decide), wr_ne (by decide), up_ne (by decide), wr_ne (by decide), upo c, up_ne (by decide), mkA_r (by decide) (by decide)]
    · rw [up_ne (by decide), up_ne (by decide), up_ne (by decide), wr_ne (by decide), upo c, wr_ne (by decide), up_ne (by decide), up_ne (by decide), mkA_r (by decide) (by decide)]
    · rw [up_ne (by decide), up_ne (by decide), upo c, wr_ne (by decide), up_ne (by decide), wr_ne (by decide), up_ne (by decide), up_ne (by decide), mkA_r (by decide) (by decide)]
    · rw [up_ne (by decide), upo c, up_ne (by decide), wr_ne (by decide), up_ne (by decide), wr_ne (by decide), up_ne (by decide), up_ne (by decide), mkA_r (by decide) (by decide)]
    · rw [upo c, up_ne (by decide), up_ne (by decide), wr_ne (by decide), up_ne (by decide), wr_ne (by decide), up_ne (by decide), up_ne (by decide), mkA_r (by decide) (by decide)]
theorem mkX0_13 [Inhabited fz_] : mkX0 M T p 13 = flf (M 13) (16 * M 0 7) (16 * M 0 7 + 16) 0 := by
  unfold mkX0
  rw [up_ne (by decide), up_ne (by decide), up_ne (by decide), wr_ne (by decide), up_ne (by decide), wr_same]
theorem mkX0_16 [Inhabited fz_] : mkX0 M T p 16 = flf (M 16) (3 * M 0 7) (3 * M 0 7 + 3) 0 := by
  unfold mkX0
  rw [up_ne (by decide), up_ne (by decide), up_ne (by decide), wr_same]
theorem mkB_r [Inhabited fz_] {q : Nat} (h : q ≠ 239) : mkB N T p q = N q := by unfold mkB; rw [up_ne h, up_ne h, wr_ne h]
theorem mkQ0_r [Inhabited fz_] {q : Nat} (h : q ≠ 239) (h' : q ≠ 6) : mkQ0 N T p q = N q := by
  unfold mkQ0; split
  · rw [up_ne h', mkB_r h]
  · exact mkB_r h
theorem mkQ0_6 [Inhabited fz_] {i : Int} (h : i ≠ 131) : mkQ0 N T p 6 i = N 6 i := by
  unfold mkQ0; split
  · rw [upo h, mkB_r (by decide)]
  · rw [mkB_r (by decide)]
theorem mkQ0_131 [Inhabited fz_] : mkQ0 N T p 6 131 = (if N 6 127 = 0 then w32 (N 6 131 + 1) else N 6 131) := by
  unfold mkQ0; split
  · rw [up_at]
  · rw [mkB_r (by decide)]
theorem mkQ0_239 [Inhabited fz_] : mkQ0 N T p 239 = mkB N T p 239 := by
  unfold mkQ0; split
  · rw [up_ne (by decide)]
  · rfl
theorem mkB_239 [Inhabited fz_] {i : Int} (h1 : i ≠ 0) (h2 : i ≠ 1) : mkB N T p 239 i = mkF (N 239) (sB (N 239 0)) T p i := by
  unfold mkB; rw [upo h2, upo h1, wr_same]
theorem mkF_o [Inhabited fz_] {f : Int → Int} {b i : Int} (h : i < b ∨ b + 56 ≤ i) : mkF f b T p i = f i := by
  unfold mkF flf su_
  rw [if_neg (by omega), if_neg (by lia), if_neg (by omega), if_neg (by omega), if_neg (by omega)]
  exact if_neg (by omega)
theorem mkF_i [Inhabited fz_] {f : Int → Int} {b j : Int} (h0 : 0 ≤ j) (h : j < 56) : mkF f b T p (b + j) = if 22 ≤ j ∧ j < 25 then -1 else if j = 4 then p else if j = 2 then -1 else if j = 1 then T else if j = 0 then f 1 else 0 := by
  unfold mkF flf su_
  by_cases c1 : 22 ≤ j ∧ j < 25
  · rw [if_pos (by omega), if_pos c1]
  · rw [if_neg (by omega), if_neg c1]
    by_cases c2 : j = 4
    · rw [if_pos (by (clear h0 h c1; lia)), if_pos c2]
    · rw [if_neg (by (clear h0 h c1; lia)), if_neg c2]
      by_cases c3 : j = 2
      · rw [if_pos (by (clear h0 h c1 c2; lia)), if_pos c3]
      · rw [if_neg (by (clear h0 h c1 c2; lia)), if_neg c3]
        by_cases c4 : j = 1
        · rw [if_pos (by (clear h0 h c1 c2 c3; lia)), if_pos c4]
        · rw [if_neg (by (clear h0 h c1 c2 c3; lia)), if_neg c4]
          by_cases c5 : j = 0
          · rw [if_pos (by (clear h0 h c1 c2 c3 c4; lia)), if_pos c5]
          · rw [if_neg (by (clear h0 h c1 c2 c3 c4; lia)), if_neg c5]
            exact if_pos (by omega)
theorem RU_mk0 [Inhabited fz_] (h : RU z M N) (hn : M 0 7 < 12) (hT : 0 ≤ T ∧ T < N 6 19) (h174 : 0 ≤ N 174 T) (h172 : 0 ≤ N 172 T) : RU z (mkX0 M T p) (mkQ0 N T p) := by
  obtain ⟨h1, h2, h3, h4, h5⟩ := h
  obtain ⟨a1, a2, a3, a4⟩ := id h1
  have x0 : ∀ i : Int, i ∉ [7, 8, 26] → mkX0 M T p 0 i = M 0 i := fun i hi => by rw [mkX0_0 (.inl rfl)]; exact mkA_0 hi
  have x7 : mkX0 M T p 0 7 = M 0 7 + 1 := by rw [mkX0_0 (.inl rfl)]; exact mkA_7.1
  have x8 : mkX0 M T p 0 8 = M 0 8 + 1 := by rw [mkX0_0 (.inl rfl)]; exact mkA_7.2.1
  have x26 : mkX0 M T p 0 26 = (if M 0 25 = 0 then w32 (M 0 26 + 1) else M 0 26) := by rw [mkX0_0 (.inl rfl)]; exact mkA_7.2.2
  have x10 : ∀ i, mkX0 M T p 10 i = if i = M 0 7 then M 0 8 else M 10 i := fun i => by rw [mkX0_0 (.inr rfl)]; exact mkA_10
  have xr : ∀ q : Nat, q ∉ [0, 10, 11, 12, 13, 14, 16, 18, 19, 20] → mkX0 M T p q = M q := fun q hq => mkX0_r hq
  have xs := fun i => mkX0_s (M := M) (T := T) (p := p) (i := i)
  have n0 : mkQ0 N T p 239 0 = M 0 7 + 1 := by rw [mkQ0_239]; unfold mkB; rw [upo (by decide), up_at, a1.2.2]
  have n1 : mkQ0 N T p 239 1 = N 239 1 + 1 := by rw [mkQ0_239]; unfold mkB; rw [up_at]
  have hB : sB (M 0 7) = 2 + 56 * M 0 7 := rfl
  have nf : ∀ i, i ≠ 0 → i ≠ 1 → mkQ0 N T p 239 i = mkF (N 239) (sB (M 0 7)) T p i := fun i c1 c2 => by rw [mkQ0_239, mkB_239 c1 c2, a1.2.2]
  have no : ∀ i, i ≠ 0 → i ≠ 1 → (i < sB (M 0 7) ∨ sB (M 0 7) + 56 ≤ i) → mkQ0 N T p 239 i = N 239 i := fun i c1 c2 c3 => by rw [nf i c1 c2, mkF_o c3]
  have ni : ∀ j, 0 ≤ j → j < 56 → mkQ0 N T p 239 (sB (M 0 7) + j) = if 22 ≤ j ∧ j < 25 then -1 else if j = 4 then p else if j = 2 then -1 else if j = 1 then T else if j = 0 then N 239 1 else 0 := fun j j0 j1 => by rw [nf _ (by (clear hT h174 h172 h1 h2 h3 h4 h5 a2 a3 a4 x0 x8 x26 x10 xr xs n1 nf no; lia)) (by omega), mkF_i j0 j1]
  have nr : ∀ q : Nat, q ≠ 239 → q ≠ 6 → mkQ0 N T p q = N q := fun q c1 c2 => mkQ0_r c1 c2
  have n6 : ∀ i : Int, i ≠ 131 → mkQ0 N T p 6 i = N 6 i := fun i hi => mkQ0_6 hi
  have ne : ∀ j v, 0 ≤ j → j < 56 → (v = if 22 ≤ j ∧ j < 25 then -1 else if j = 4 then p else if j = 2 then -1 else if j = 1 then T else if j = 0 then N 239 1 else 0) → mkQ0 N T p 239 (sB (M 0 7) + j) = v := fun j v j0 j1 e => by rw [ni j j0 j1, e]
  refine ⟨⟨by rw [x7, n0]; (clear hT h174 h172 h1 h2 h3 h4 h5 a2 a3 a4 x0 x8 x26 x10 xr xs n1 hB nf no ni nr n6 ne; lia), by rw [x8, n1]; (clear hn hT h174 h172 h1 h2 h3 h4 h5 a1 a3 a4 x0 x7 x26 x10 xr xs n0 hB nf no ni nr n6 ne; lia), fun k k0 k1 => ?_, fun k k0 k1 i i0 i1 => ?_⟩, RRt_k h2 (xr 21 (by decide)) (xr 22 (by decide)) (fun i hi => no i (by (clear hn hT h174 h172 h1 h2 h3 h4 h5 a1 a2 a3 a4 x0 x7 x8 x26 x10 xr xs n0 n1 hB nf no ni nr n6 ne; omega)) (by (clear hn hT h174 h172 h1 h2 h3 h4 h5 a1 a2 a3 a4 x0 x7 x8 x26 x10 xr xs n0 n1 hB nf no ni nr n6 ne; omega)) (by (clear hT h174 h172 h1 h2 h3 h4 h5 a2 a3 a4 x0 x8 x26 x10 xr xs n1 nf no ni nr n6 ne; lia))) (n6 18 (by decide)), ?_, ROU_c h4 (fun i hi => x0 i (fun e => by simp only [List.mem_cons, List.not_mem_nil, or_false] at e hi; (clear hn hT h174 h172 h1 h2 h3 h4 h5 a1 a2 a3 a4 x0 x7 x8 x26 x10 xr xs n0 n1 hB nf no ni nr n6 ne; lia))) (xr 24 (by decide)) (fun i hi => n6 i (fun e => by rw [e] at hi; revert hi; decide)) (nr 241 (by decide) (by decide)), REV_c h5 (fun i hi => x0 i (fun e => by simp only [List.mem_cons, List.not_mem_nil, or_false] at e hi; (clear hn hT h174 h172 h1 h2 h3 h4 h5 a1 a2 a3 a4 x0 x7 x8 x26 x10 xr xs n0 n1 hB nf no ni nr n6 ne; lia))) (xr 23 (by decide)) (fun i hi => n6 i (fun e => by rw [e] at hi; revert hi; decide)) (nr 240 (by decide) (by decide))⟩
  · rw [x7] at k1
    have hK : sB k = 2 + 56 * k := rfl
    by_cases c : k = M 0 7
    · have s := xs (M 0 7)
      rw [if_pos rfl, if_pos rfl, if_pos rfl, if_pos rfl, if_pos rfl, if_pos rfl] at s
      have e0 : mkQ0 N T p 239 (sB (M 0 7)) = N 239 1 := by have := ne 0 (N 239 1) (by decide) (by decide) rfl; rw [Int.add_zero] at this; exact this
      rw [c]
      unfold IN
      rw [x10, if_pos rfl, s.1, s.2.1, s.2.2.1, s.2.2.2.1, s.2.2.2.2.1, s.2.2.2.2.2, x8, mkX0_13, mkX0_16, xr 17 (by decide), xr 15 (by decide), n6 19 (by decide), nr 172 (by decide) (by decide), nr 173 (by decide) (by decide), nr 174 (by decide) (by decide), e0, ne 1 T (by decide) (by decide) rfl, ne 2 (-1) (by decide) (by decide) rfl, ne 3 0 (by decide) (by decide) rfl, ne 4 p (by decide) (by decide) rfl, ne 5 0 (by decide) (by decide) rfl, ne 25 0 (by decide) (by decide) rfl]
      refine ⟨⟨a2.1, rfl, rfl, rfl, rfl, rfl⟩, ⟨by (clear hn hT h174 h172 h1 h2 h3 h4 h5 a1 a3 a4 x0 x7 x26 x10 xr xs n0 hB nf no ni nr n6 ne k0 k1 hK c s; lia), hT, by omega, by (clear hn hT h172 h1 h2 h3 h4 h5 a1 a2 a3 a4 x0 x7 x8 x26 x10 xr xs n0 n1 hB nf no ni nr n6 ne k0 k1 hK c s e0; omega)⟩, ⟨fun i i0 i1 => ?_, fun i _ i0 i1 => ?_⟩, fun t t0 t1 => ?_, ⟨by decide, by decide, rfl⟩, fun i i0 i1 => by (clear hn hT h174 h172 h1 h2 h3 h4 h5 a1 a2 a3 a4 x0 x7 x8 x26 x10 xr xs n0 n1 hB nf no ni nr n6 ne k0 k1 hK c s e0; omega), fun i i0 i1 => ?_⟩
      · unfold flf; rw [if_pos (by omega), Int.add_assoc, ni _ (by (clear hn hT h174 h172 h1 h2 h3 h4 h5 a1 a2 a3 a4 x0 x7 x8 x26 x10 xr xs n0 n1 hB nf no ni nr n6 ne k0 k1 hK c s e0; omega)) (by (clear hn hT h174 h172 h1 h2 h3 h4 h5 a1 a2 a3 a4 x0 x7 x8 x26 x10 xr xs n0 n1 hB nf no ni nr n6 ne k0 k1 hK c s e0; omega)), if_neg (by (clear hn hT h174 h172 h1 h2 h3 h4 h5 a1 a2 a3 a4 x0 x7 x8 x26 x10 xr xs n0 n1 hB nf no ni nr n6 ne k0 k1 hK c s e0; omega)), if_neg (by (clear hn hT h174 h172 h1 h2 h3 h4 h5 a1 a2 a3 a4 x0 x7 x8 x26 x10 xr xs n0 n1 hB nf no ni nr n6 ne k0 k1 hK c s e0; omega)), if_neg (by (clear hn hT h174 h172 h1 h2 h3 h4 h5 a1 a2 a3 a4 x0 x7 x8 x26 x10 xr xs n0 n1 hB nf no ni nr n6 ne k0 k1 hK c s e0; lia)), if_neg (by (clear hn hT h174 h172 h1 h2 h3 h4 h5 a1 a2 a3 a4 x0 x7 x8 x26 x10 xr xs n0 n1 hB nf no ni nr n6 ne k0 k1 hK c s e0; lia)), if_neg (by (clear hn hT h174 h172 h1 h2 h3 h4 h5 a1 a2 a3 a4 x0 x7 x8 x26 x10 xr xs n0 n1 hB nf no ni nr n6 ne k0 k1 hK c s e0; omega))]
      · rw [Int.add_assoc, ni _ (by omega) (by omega), if_neg (by omega), if_neg (by omega), if_neg (by omega), if_neg (by omega), if_neg (by omega)]
      · have f0 : flf (M 16) (3 * M 0 7) (3 * M 0 7 + 3) 0 (3 * M 0 7 + t) = 0 := by unfold flf; rw [if_pos (by (clear hn hT h174 h172 h1 h2 h3 h4 h5 a1 a2 a3 a4 x0 x7 x8 x26 x10 xr xs n0 n1 hB nf no ni nr n6 ne k0 k1 hK c s e0; omega))]
        rw [f0, Int.add_assoc, ni _ (by (clear hn hT h174 h172 h1 h2 h3 h4 h5 a1 a2 a3 a4 x0 x7 x8 x26 x10 xr xs n0 n1 hB nf no ni nr n6 ne k0 k1 hK c s e0 f0; omega)) (by (clear hn hT h174 h172 h1 h2 h3 h4 h5 a1 a2 a3 a4 x0 x7 x8 x26 x10 xr xs n0 n1 hB nf no ni nr n6 ne k0 k1 hK c s e0 f0; omega)), if_pos (by (clear hn hT h174 h172 h1 h2 h3 h4 h5 a1 a2 a3 a4 x0 x7 x8 x26 x10 xr xs n0 n1 hB nf no ni nr n6 ne k0 k1 hK c s e0 f0; omega))]
        exact ⟨.inr ⟨rfl, rfl⟩, fun _ => rfl⟩
      · rw [Int.add_assoc, ni _ (by (clear hn hT h174 h172 h1 h2 h3 h4 h5 a1 a2 a3 a4 x0 x7 x8 x26 x10 xr xs n0 n1 hB nf no ni nr n6 ne k0 k1 hK c s e0; lia)) (by (clear hn hT h174 h172 h1 h2 h3 h4 h5 a1 a2 a3 a4 x0 x7 x8 x26 x10 xr xs n0 n1 hB nf no ni nr n6 ne k0 k1 hK c s e0; omega)), if_neg (by (clear hn hT h174 h172 h1 h2 h3 h4 h5 a1 a2 a3 a4 x0 x7 x8 x26 x10 xr xs n0 n1 hB nf no ni nr n6 ne k0 k1 hK c s e0; omega)), if_neg (by omega), if_neg (by (clear hn hT h174 h172 h1 h2 h3 h4 h5 a1 a2 a3 a4 x0 x7 x8 x26 x10 xr xs n0 n1 hB nf no ni nr n6 ne k0 k1 hK c s e0; omega)), if_neg (by (clear hn hT h174 h172 h1 h2 h3 h4 h5 a1 a2 a3 a4 x0 x7 x8 x26 x10 xr xs n0 n1 hB nf no ni nr n6 ne k0 k1 hK c s e0; omega)), if_neg (by (clear hn hT h174 h172 h1 h2 h3 h4 h5 a1 a2 a3 a4 x0 x7 x8 x26 x10 xr xs n0 n1 hB nf no ni nr n6 ne k0 k1 hK c s e0; lia))]
    · have s := xs k
      rw [if_neg c, if_neg c, if_neg c, if_neg c, if_neg c, if_neg c] at s
      refine IN_o (a3 k k0 (by (clear hn hT h174 h172 h1 h2 h3 h4 h5 a2 a3 a4 x0 x8 x26 x10 xr xs n1 hB nf no ni nr n6 ne k0 hK s; lia))) (by rw [x8]; omega) (fun q hq => ?_) (fun i i0 i1 => ?_) (fun i i0 i1 => by rw [xr 15 (by decide)]) (fun i i0 i1 => ?_) (fun i i0 i1 => no _ (by (clear hn hT h174 h172 h1 h2 h3 h4 h5 a1 a2 a3 a4 x0 x7 x8 x26 x10 xr xs n0 n1 hB nf no ni nr n6 ne k1 c s; omega)) (by (clear hn hT h174 h172 h1 h2 h3 h4 h5 a1 a2 a3 a4 x0 x7 x8 x26 x10 xr xs n0 n1 hB nf no ni nr n6 ne k1 c s; omega)) (by (clear hn hT h174 h172 h1 h2 h3 h4 h5 a2 a3 a4 x0 x8 x26 x10 xr xs n1 nf no ni nr n6 ne k0 s; lia))) (n6 19 (by decide)) (fun q hq => nr q (fun e => by rw [e] at hq; revert hq; decide) (fun e => by rw [e] at hq; revert hq; decide))
      · simp only [List.mem_cons, List.not_mem_nil, or_false] at hq
        rcases hq with e | e | e | e | e | e | e <;> subst e
        · rw [x10, if_neg c]
        · exact s.1
        · exact s.2.1
        · exact s.2.2.1
        · exact s.2.2.2.1
        · exact s.2.2.2.2.1
        · exact s.2.2.2.2.2
      · rw [mkX0_13]; unfold flf; rw [if_neg (by (clear hn hT h174 h172 h1 h2 h3 h4 h5 a2 a3 a4 x0 x8 x26 x10 xr xs n1 hB nf no ni nr n6 ne k0 hK s; lia))]
      · rw [mkX0_16, xr 17 (by decide)]; unfold flf; rw [if_neg (by (clear hn hT h174 h172 h1 h2 h3 h4 h5 a2 a3 a4 x0 x8 x26 x10 xr xs n1 hB nf no ni nr n6 ne k0 hK s; lia))]; exact ⟨rfl, rfl⟩
  · rw [x7] at k0
    have hK : sB k = 2 + 56 * k := rfl
    rw [no _ (by (clear hT h174 h172 h1 h2 h3 h4 h5 a2 a3 a4 x0 x8 x26 x10 xr xs n1 hB nf no ni nr n6 ne k1; omega)) (by (clear hT h174 h172 h1 h2 h3 h4 h5 a2 a3 a4 x0 x8 x26 x10 xr xs n1 hB nf no ni nr n6 ne k1; lia)) (by (clear hn hT h174 h172 h1 h2 h3 h4 h5 a2 a3 a4 x0 x8 x26 x10 xr xs n1 nf no ni nr n6 ne k1; lia))]
    exact a4 k (by (clear hn hT h174 h172 h1 h2 h3 h4 h5 a2 a3 a4 x0 x8 x26 x10 xr xs n1 hB nf no ni nr n6 ne k1 i0 i1 hK; lia)) k1 i i0 i1
  · obtain ⟨z1, z2, z3, ⟨l1, l2⟩, z5⟩ := h3
    unfold RSC
    rw [x26, mkQ0_131, z1.1, z1.2.1, l1]
    have e0 : ∀ i : Int, i ∈ [25, 9, 10, 11, 27, 28, 29, 30, 31, 37, 38] → mkX0 M T p 0 i = M 0 i := fun i hi => x0 i (fun e => by simp only [List.mem_cons, List.not_mem_nil, or_false] at e hi; (clear hn hT h174 h172 h1 h2 h4 h5 a1 a2 a3 a4 x0 x7 x8 x26 x10 xr xs n0 n1 hB nf no ni nr n6 ne z1 z2 z3 z5 l1 l2; omega))
    have e6 : ∀ i : Int, i ∈ [127, 128, 129, 130, 132, 133, 134, 135, 136, 138, 139] → mkQ0 N T p 6 i = N 6 i := fun i hi => n6 i (fun e => by rw [e] at hi; revert hi; decide)
    rw [e0 25 (by decide), e0 9 (by decide), e0 10 (by decide), e0 27 (by decide), e0 28 (by decide), e0 29 (by decide), e0 30 (by decide), e0 31 (by decide), e0 37 (by decide), e0 38 (by decide), e6 127 (by decide), e6 128 (by decide), e6 129 (by decide), e6 132 (by decide), e6 133 (by decide), e6 134 (by decide), e6 135 (by decide), e6 136 (by decide), e6 138 (by decide), e6 139 (by decide)]
    exact ⟨z1, z2, z3, ⟨rfl, l2⟩, z5⟩
theorem RU_mk [Inhabited fz_] (h : RU z M N) (hn : M 0 7 < 12) (hT : 0 ≤ T ∧ T < N 6 19) (h174 : 0 ≤ N 174 T) (h172 : 0 ≤ N 172 T) : RU z (mkX M T p) (mkQ N T p) := by
  unfold mkX mkQ
  rw [← h.1.2.1.1]; exact RU_ev (RU_mk0 h hn hT h174 h172)
theorem x_31 [Inhabited fz_] (h : RU z M N) (hn : M 0 7 < 12) (hp : M 0 8 < 2000000000) (hT : 0 ≤ T ∧ T < N 6 19) (h174 : 0 ≤ N 174 T) (h172 : 0 ≤ N 172 T) : Ex_ 2 31 [.inr (.inr 0), .inl T, .inl p] M [.inl (M 0 7)] (mkX M T p) := fun Qr Qt hq => t_31 fun V hV hW => b_31_0 (Tr_mono _) hV hW _ _ _ (by
  have n12 := h.1.1
  have p1 := h.1.2.1.2
  rw [w32_id (x := M 0 7 + 1) (by (clear h hp hT h174 h172 hq hV hW p1; lia)) (by (clear h hp hT h174 h172 hq hV hW p1; omega)), w32_id (x := M 0 8 + 1) (by omega) (by omega)]
  refine ⟨by omega, fun _ => ?_⟩
  obtain ⟨b1, b2, b3⟩ := RU_b5 (RU_mk0 (p := p) h hn hT h174 h172)
  have e10 : mkX0 M T p 10 (M 0 7) = M 0 8 := by rw [mkX0_0 (.inr rfl), mkA_10, if_pos rfl]
  have go : ∀ A : mm_, A = mkA M → V 69 [rr 0, ii T, ii p, ii (M 0 7), ii 0] [] (up_ (up_ A 11 (M 0 7) T) 12 (M 0 7) (-1)) := fun A hA => by
    subst hA
    have e13 : up_ (up_ (mkA M) 11 (M 0 7) T) 12 (M 0 7) (-1) 13 = M 13 := by rw [up_ne (by decide), up_ne (by decide), mkA_r (by decide) (by decide)]
    generalize eA : up_ (up_ (mkA M) 11 (M 0 7) T) 12 (M 0 7) (-1) = A1 at *
    have e16 : up_ (wr_ A1 13 (flf (M 13) (16 * M 0 7) (16 * M 0 7 + 16) 0)) 14 (M 0 7) 0 16 = M 16 := by rw [up_ne (by decide), wr_ne (by decide), ← eA, up_ne (by decide), up_ne (by decide), mkA_r (by decide) (by decide)]
    have l2 : ∀ (j : Nat) (t : Int), t + j = 3 → 0 ≤ t → V 105 [rr 0, ii T, ii p, ii (M 0 7), ii t] [] (wr_ (up_ (wr_ A1 13 (flf (M 13) (16 * M 0 7) (16 * M 0 7 + 16) 0)) 14 (M 0 7) 0) 16 (flf (M 16) (3 * M 0 7) (3 * M 0 7 + t) 0)) := fun j => by
      induction j with
      | zero =>
        intro t hj t0
        refine b_31_105 (Tr_mono _) hV hW _ _ _ _ _ ?_
        rw [if_neg (by (clear h hn hp hT h174 h172 hq hV hW n12 p1 b1 b2 b3 e10 eA e13 e16 t0; lia))]
        have et : t = 3 := by (clear h hn hp hT h174 h172 hq hV hW n12 p1 b1 b2 b3 e10 eA e13 e16 t0; lia)
        rw [et]
        unfold mkX mkX0 at hq
        unfold mkX0 at e10 b1 b2 b3
        rw [eA] at hq e10 b1 b2 b3
        have e10' : wr_ (up_ (wr_ A1 13 (flf (M 13) (16 * M 0 7) (16 * M 0 7 + 16) 0)) 14 (M 0 7) 0) 16 (flf (M 16) (3 * M 0 7) (3 * M 0 7 + 3) 0) 10 (M 0 7) = M 0 8 := by
          rw [up_ne (by decide), up_ne (by decide), up_ne (by decide)] at e10; exact e10
        rw [e10']
        exact ⟨by omega, by omega, by omega, by omega, x_5 b1 b2 b3 _ _ (rv_i hq)⟩
      | succ j ih =>
        intro t hj t0
        refine b_31_105 (Tr_mono _) hV hW _ _ _ _ _ ?_
        rw [if_pos (by (clear h hn hp hT h174 h172 hq hV hW n12 p1 b1 b2 b3 e10 eA e13 e16 ih; omega)), w32_id (x := 3 * M 0 7) (by (clear h hp hT h174 h172 hq hV hW p1 b1 b2 b3 e10 eA e13 e16 ih hj t0; lia)) (by (clear h hp hT h174 h172 hq hV hW p1 b1 b2 b3 e10 eA e13 e16 ih hj t0; omega)), w32_id (x := 3 * M 0 7 + t) (by (clear h hp hT h174 h172 hq hV hW p1 b1 b2 b3 e10 eA e13 e16 ih; lia)) (by (clear h hp hT h174 h172 hq hV hW p1 b1 b2 b3 e10 eA e13 e16 ih; lia)), w32_id (x := t + 1) (by (clear h hn hp hT h174 h172 hq hV hW n12 p1 b1 b2 b3 e10 eA e13 e16 ih; omega)) (by (clear h hn hp hT h174 h172 hq hV hW n12 p1 b1 b2 b3 e10 eA e13 e16 ih; omega)), flf_s (by (clear h hn hp hT h174 h172 hq hV hW n12 p1 b1 b2 b3 e10 eA e13 e16 ih; lia)), Int.add_assoc]
        exact ⟨⟨by (clear h hp hT h174 h172 hq hV hW p1 b1 b2 b3 e10 eA e13 e16 ih; omega), .inl rfl⟩, ih (t + 1) (by (clear h hn hp hT h174 h172 hq hV hW n12 p1 b1 b2 b3 e10 eA e13 e16 ih t0; omega)) (by (clear h hn hp hT h174 h172 hq hV hW n12 p1 b1 b2 b3 e10 eA e13 e16 ih; omega))⟩
    have l1 : ∀ (j : Nat) (t : Int), t + j = 16 → 0 ≤ t → V 69 [rr 0, ii T, ii p, ii (M 0 7), ii t] [] (wr_ A1 13 (flf (M 13) (16 * M 0 7) (16 * M 0 7 + t) 0)) := fun j => by
      induction j with
      | zero =>
        intro t hj t0
        refine b_31_69 (Tr_mono _) hV hW _ _ _ _ _ ?_
        rw [if_neg (by omega)]
        have et : t = 16 := by omega
        have := l2 3 0 (by decide) (by decide)
        rw [Int.add_zero, flf_0, ← e16, wr_id] at this
        rw [et]; exact ⟨by (clear h hp hT h174 h172 hq hV hW p1 b1 b2 b3 e10 eA e13 e16 l2 hj t0 et this; omega), this⟩
      | succ j ih =>
        intro t hj t0
        refine b_31_69 (Tr_mono _) hV hW _ _ _ _ _ ?_
        rw [if_pos (by omega), w32_id (x := 16 * M 0 7) (by omega) (by (clear h hp hT h174 h172 hq hV hW p1 b1 b2 b3 e10 eA e13 e16 l2 ih hj t0; lia)), w32_id (x := 16 * M 0 7 + t) (by (clear h hp hT h174 h172 hq hV hW p1 b1 b2 b3 e10 eA e13 e16 l2 ih; lia)) (by (clear h hp hT h174 h172 hq hV hW p1 b1 b2 b3 e10 eA e13 e16 l2 ih; omega)), w32_id (x := t + 1) (by (clear h hn hp hT h174 h172 hq hV hW n12 p1 b1 b2 b3 e10 eA e13 e16 l2 ih; omega)) (by omega), flf_s (by (clear h hn hp hT h174 h172 hq hV hW n12 p1 b1 b2 b3 e10 eA e13 e16 l2 ih; lia)), Int.add_assoc]
        exact ⟨by omega, ih (t + 1) (by (clear h hn hp hT h174 h172 hq hV hW n12 p1 b1 b2 b3 e10 eA e13 e16 l2 ih t0; lia)) (by (clear h hn hp hT h174 h172 hq hV hW n12 p1 b1 b2 b3 e10 eA e13 e16 l2 ih; omega))⟩
    have := l1 16 0 (by decide) (by decide)
    rw [Int.add_zero, flf_0, ← e13, wr_id] at this
    exact this
  by_cases c : M 0 25 = 0
  · rw [if_pos c]
    exact ⟨by omega, by omega, go _ (by unfold mkA; rw [if_pos c])⟩
  · rw [if_neg c]
    exact ⟨by omega, by omega, go _ (by unfold mkA; rw [if_neg c])⟩)
theorem q_322 [Inhabited fz_] (h : RU z M N) (hn : M 0 7 < 12) (hp : M 0 8 < 2000000000) (hT : 0 ≤ T ∧ T < N 6 19) (h174 : 0 ≤ N 174 T) (h172 : 0 ≤ N 172 T) : Ex_ 2 322 [.inr (.inr 6), .inl T, .inl p] N [.inl (M 0 7)] (mkQ N T p) := fun Qr Qt hq => t_322 fun V hV hW => b_322_0 (Tr_mono _) hV hW _ _ _ (by
  have n12 := h.1.1
  have p1 := h.1.2.1
  have hB : sB (M 0 7) = 2 + 56 * M 0 7 := rfl
  refine ⟨by decide, ?_⟩
  rw [n12.2.2]
  refine q_323 (by omega) _ _ (ri_i ?_)
  obtain ⟨b1, b2, b3⟩ := RU_b324 (RU_mk0 (p := p) h hn hT h174 h172)
  have f1 : ∀ x, sB (M 0 7) ≤ x → flf (N 239) (sB (M 0 7)) x 0 1 = N 239 1 := fun x hx => by unfold flf; rw [if_neg (by (clear h hp hT h174 h172 hq hV hW p1 b1 b2 b3 hx; lia))]
  generalize eG : su_ (su_ (su_ (su_ (flf (N 239) (sB (M 0 7)) (sB (M 0 7) + 56) 0) (sB (M 0 7)) (N 239 1)) (sB (M 0 7) + 1) T) (sB (M 0 7) + 2) (-1)) (sB (M 0 7) + 4) p = G
  have eF : mkF (N 239) (sB (M 0 7)) T p = flf G (sB (M 0 7) + 22) (sB (M 0 7) + 25) (-1) := by unfold mkF; rw [eG]
  have l2 : ∀ (j : Nat) (t : Int), t + j = 3 → 0 ≤ t → V 86 [rr 6, ii T, ii p, ii (M 0 7), ii (sB (M 0 7)), ii t] [] (wr_ N 239 (flf G (sB (M 0 7) + 22) (sB (M 0 7) + 22 + t) (-1))) := fun j => by
    induction j with
    | zero =>
      intro t hj t0
      refine b_322_86 (Tr_mono _) hV hW _ _ _ _ _ _ ?_
      rw [if_neg (by omega)]
      have et : t = 3 := by omega
      rw [et, show sB (M 0 7) + 22 + 3 = sB (M 0 7) + 25 by (clear h hn hp hT h174 h172 hq hV hW n12 p1 hB b1 b2 b3 f1 eG eF hj t0 et; lia), ← eF]
      have w0 : wr_ N 239 (mkF (N 239) (sB (M 0 7)) T p) 239 0 = N 239 0 := by rw [wr_same, mkF_o (by (clear h hp hT h174 h172 hq hV hW p1 b1 b2 b3 f1 eG eF hj t0 et; omega))]
      have w1 : wr_ N 239 (mkF (N 239) (sB (M 0 7)) T p) 239 1 = N 239 1 := by rw [wr_same, mkF_o (by (clear h hp hT h174 h172 hq hV hW p1 b1 b2 b3 f1 eG eF hj t0 et; omega))]
      have w6 : wr_ N 239 (mkF (N 239) (sB (M 0 7)) T p) 6 = N 6 := wr_ne (by decide)
      have eM : up_ (up_ (wr_ N 239 (mkF (N 239) (sB (M 0 7)) T p)) 239 0 (N 239 0 + 1)) 239 1 (N 239 1 + 1) = mkB N T p := by unfold mkB; rw [n12.2.2]
      have ep : mkB N T p 239 (sB (M 0 7)) = N 239 1 := by
        rw [mkB_239 (by (clear h hn hp hT h174 h172 hq hV hW p1 b1 b2 b3 f1 eG eF hj t0 et w1 w6 eM; lia)) (by (clear h hn hp hT h174 h172 hq hV hW p1 b1 b2 b3 f1 eG eF hj t0 et w1 w6 eM; lia)), n12.2.2]
        have := mkF_i (f := N 239) (b := sB (M 0 7)) (T := T) (p := p) (j := 0) (by decide) (by decide)
        rw [Int.add_zero] at this; exact this
      rw [w0, w1, w6, w32_id (x := N 239 0 + 1) (by (clear h hp hT h174 h172 hq hV hW p1 hB b1 b2 b3 f1 eG eF hj t0 et w1 w6 eM ep; lia)) (by omega), w32_id (x := N 239 1 + 1) (by (clear h hn hT h174 h172 hq hV hW n12 hB b1 b2 b3 f1 eG eF hj t0 et w0 w6 eM; lia)) (by omega), eM, ep]
      refine ⟨by decide, by decide, by decide, by decide, fun _ => ?_⟩
      unfold mkQ mkQ0 at hq
      unfold mkQ0 at b1 b2 b3
      by_cases c : N 6 127 = 0
      · rw [if_pos c] at hq b1 b2 b3 ⊢
        exact ⟨by omega, q_324 b1 b2 b3 _ _ (rv_i hq)⟩
      · rw [if_neg c] at hq b1 b2 b3 ⊢
        exact ⟨by (clear h hp hT h174 h172 hq hV hW p1 b1 b2 b3 f1 eG eF hj t0 et w1 w6 eM ep c; lia), q_324 b1 b2 b3 _ _ (rv_i hq)⟩
    | succ j ih =>
      intro t hj t0
      refine b_322_86 (Tr_mono _) hV hW _ _ _ _ _ _ ?_
      rw [if_pos (by omega), w32_id (x := sB (M 0 7) + 22) (by (clear h hp hT h174 h172 hq hV hW p1 b1 b2 b3 f1 eG eF ih hj t0; lia)) (by omega), w32_id (x := sB (M 0 7) + 22 + t) (by omega) (by (clear h hp hT h174 h172 hq hV hW p1 b1 b2 b3 f1 eG eF ih; lia)), w32_id (x := t + 1) (by omega) (by omega), flf_s (by (clear h hn hp hT h174 h172 hq hV hW n12 p1 hB b1 b2 b3 f1 eG eF ih; omega)), Int.add_assoc (sB (M 0 7) + 22) t 1]
      exact ⟨by (clear h hp hT h174 h172 hq hV hW p1 b1 b2 b3 f1 eG eF ih; omega), ih (t + 1) (by omega) (by omega)⟩
  have l1 : ∀ (j : Nat) (t : Int), t + j = 56 → 0 ≤ t → V 16 [rr 6, ii T, ii p, ii (M 0 7), ii (sB (M 0 7)), ii t] [] (wr_ N 239 (flf (N 239) (sB (M 0 7)) (sB (M 0 7) + t) 0)) := fun j => by
    induction j with
    | zero =>
      intro t hj t0
      refine b_322_16 (Tr_mono _) hV hW _ _ _ _ _ _ ?_
      rw [if_neg (by (clear h hn hp hT h174 h172 hq hV hW n12 p1 hB b1 b2 b3 f1 eG eF l2 t0; omega))]
      have et : t = 56 := by (clear h hn hp hT h174 h172 hq hV hW n12 p1 hB b1 b2 b3 f1 eG eF l2 t0; lia)
      have := l2 3 0 (by decide) (by decide)
      rw [Int.add_zero, flf_0] at this
      rw [et, wr_same, f1 _ (by omega), w32_id (x := sB (M 0 7) + 1) (by (clear h hp hT h174 h172 hq hV hW p1 b1 b2 b3 f1 eG eF l2 hj t0 et this; omega)) (by (clear h hp hT h174 h172 hq hV hW p1 b1 b2 b3 f1 eG eF l2 hj t0 et this; lia)), w32_id (x := sB (M 0 7) + 2) (by (clear h hp hT h174 h172 hq hV hW p1 b1 b2 b3 f1 eG eF l2 hj t0 et this; omega)) (by omega), w32_id (x := sB (M 0 7) + 4) (by (clear h hp hT h174 h172 hq hV hW p1 b1 b2 b3 f1 eG eF l2 hj t0 et this; lia)) (by (clear h hp hT h174 h172 hq hV hW p1 b1 b2 b3 f1 eG eF l2 hj t0 et this; lia)), up_wr, up_wr, up_wr, up_wr, eG]
      exact ⟨by decide, by (clear h hp hT h174 h172 hq hV hW p1 b1 b2 b3 f1 eG eF l2 hj t0 et this; lia), by (clear h hp hT h174 h172 hq hV hW p1 b1 b2 b3 f1 eG eF l2 hj t0 et this; omega), by (clear h hp hT h174 h172 hq hV hW p1 b1 b2 b3 f1 eG eF l2 hj t0 et this; lia), by (clear h hp hT h174 h172 hq hV hW p1 b1 b2 b3 f1 eG eF l2 hj t0 et this; omega), this⟩
    | succ j ih =>
      intro t hj t0
      refine b_322_16 (Tr_mono _) hV hW _ _ _ _ _ _ ?_
      rw [if_pos (by (clear h hn hp hT h174 h172 hq hV hW n12 p1 hB b1 b2 b3 f1 eG eF l2 ih; omega)), w32_id (x := sB (M 0 7) + t) (by (clear h hp hT h174 h172 hq hV hW p1 b1 b2 b3 f1 eG eF l2 ih; omega)) (by omega), w32_id (x := t + 1) (by (clear h hn hp hT h174 h172 hq hV hW n12 p1 hB b1 b2 b3 f1 eG eF l2 ih; omega)) (by (clear h hn hp hT h174 h172 hq hV hW n12 p1 hB b1 b2 b3 f1 eG eF l2 ih; omega)), flf_s (by (clear h hn hp hT h174 h172 hq hV hW n12 p1 hB b1 b2 b3 f1 eG eF l2 ih; omega)), Int.add_assoc (sB (M 0 7)) t 1]
      exact ⟨by omega, ih (t + 1) (by (clear h hn hp hT h174 h172 hq hV hW n12 p1 hB b1 b2 b3 f1 eG eF l2 ih t0; omega)) (by (clear h hn hp hT h174 h172 hq hV hW n12 p1 hB b1 b2 b3 f1 eG eF l2 ih; lia))⟩
  have := l1 56 0 (by decide) (by decide)
  rw [Int.add_zero, flf_0, wr_id] at this
  exact this)
theorem XRF_mk [Inhabited fz_] : XRF M (mkX M T p) := by
  unfold mkX
  refine XRF_tr ⟨fun r hr => mkX0_r (fun e => hr (by simp only [xuL, List.mem_cons, List.not_mem_nil, or_false] at e ⊢; (clear hr; lia))), fun i hi => ?_⟩ XRF_ev
  rw [mkX0_0 (.inl rfl)]; exact mkA_0 (fun e => hi (by simp only [xfL, List.mem_cons, List.not_mem_nil, or_false] at e ⊢; lia))
theorem QRF_mk [Inhabited fz_] : QRF N (mkQ N T p) := by
  unfold mkQ
  exact QRF_tr ⟨fun r hr => mkQ0_r (fun e => hr (by rw [e]; decide)) (fun e => hr (by rw [e]; decide)), fun i hi => mkQ0_6 (fun e => hi (by rw [e]; decide))⟩ QRF_ev
end MKa
end T339_mk
section T340_st
/-! the run: an instance stops (X 32 | Q 348) -/
section STa
variable {z : Int} {M N M' N' : mm_} {k k' p : Int}
theorem IN_m [Inhabited fz_] (h : IN z M N k') (h08 : M 0 8 ≤ M' 0 8) (hx : ∀ q : Nat, q ∈ [10, 11, 12, 14, 18, 19, 20] → M' q k = M q k') (h13 : ∀ i, 0 ≤ i → i < 16 → M' 13 (16 * k + i) = M 13 (16 * k' + i)) (h15 : ∀ i, 0 ≤ i → i < 30 → M' 15 (30 * k + i) = M 15 (30 * k' + i)) (h16 : ∀ i, 0 ≤ i → i < 3 → M' 16 (3 * k + i) = M 16 (3 * k' + i) ∧ M' 17 (3 * k + i) = M 17 (3 * k' + i)) (hN : ∀ j, 0 ≤ j → j < 56 → N' 239 (sB k + j) = N 239 (sB k' + j)) (h19 : N' 6 19 = N 6 19) (hq : ∀ q : Nat, q ∈ [172, 173, 174] → N' q = N q) : IN z M' N' k := by
  obtain ⟨⟨a1, a2, a3, a4, a5, a6⟩, ⟨b1, b2, b3⟩, ⟨c1, c2⟩, d1, ⟨e1, e2, e3⟩, e4, e5⟩ := h
  have h0 := hN 0 (by decide) (by decide)
  rw [Int.add_zero, Int.add_zero] at h0
  unfold IN
  rw [hx 10 (by decide), hx 11 (by decide), hx 12 (by decide), hx 14 (by decide), hx 18 (by decide), hx 19 (by decide), hx 20 (by decide), h19, hq 172 (by decide), hq 173 (by decide), hq 174 (by decide), h0, hN 1 (by decide) (by decide), hN 2 (by decide) (by decide), hN 3 (by decide) (by decide), hN 4 (by decide) (by decide), hN 5 (by decide) (by decide), hN 25 (by decide) (by decide)]
  have n6 : ∀ i, 0 ≤ i → i < 16 → N' 239 (sB k + 6 + i) = N 239 (sB k' + 6 + i) := fun i i0 i1 => by have := hN (6 + i) (by (clear h08 hx h13 h15 h16 hN h19 hq a1 a2 a3 a4 a5 a6 b1 b2 b3 c1 c2 d1 e1 e2 e3 e4 e5 h0; omega)) (by (clear h08 hx h13 h15 h16 hN h19 hq a1 a2 a3 a4 a5 a6 b1 b2 b3 c1 c2 d1 e1 e2 e3 e4 e5 h0; omega)); rw [← Int.add_assoc, ← Int.add_assoc] at this; exact this
  have n22 : ∀ i, 0 ≤ i → i < 3 → N' 239 (sB k + 22 + i) = N 239 (sB k' + 22 + i) := fun i i0 i1 => by have := hN (22 + i) (by (clear h08 hx h13 h15 h16 hN h19 hq a1 a2 a3 a4 a5 a6 b1 b2 b3 c1 c2 d1 e1 e2 e3 e4 e5 h0 n6; lia)) (by (clear h08 hx h13 h15 h16 hN h19 hq a1 a2 a3 a4 a5 a6 b1 b2 b3 c1 c2 d1 e1 e2 e3 e4 e5 h0 n6; lia)); rw [← Int.add_assoc, ← Int.add_assoc] at this; exact this
  have n26 : ∀ i, 0 ≤ i → i < 30 → N' 239 (sB k + 26 + i) = N 239 (sB k' + 26 + i) := fun i i0 i1 => by have := hN (26 + i) (by (clear h08 hx h13 h15 h16 hN h19 hq a1 a2 a3 a4 a5 a6 b1 b2 b3 c1 c2 d1 e1 e2 e3 e4 e5 h0 n6 n22; lia)) (by (clear h08 hx h13 h15 h16 hN h19 hq a1 a2 a3 a4 a5 a6 b1 b2 b3 c1 c2 d1 e1 e2 e3 e4 e5 h0 n6 n22; omega)); rw [← Int.add_assoc, ← Int.add_assoc] at this; exact this
  refine ⟨⟨a1, a2, a3, a4, a5, a6⟩, ⟨⟨b1.1, by (clear hx h13 h15 h16 hN h19 hq a2 a3 a4 a5 a6 b2 b3 c1 c2 d1 e1 e2 e3 e4 e5 n6 n22 n26; omega)⟩, b2, b3⟩, ⟨fun i i0 i1 => by rw [h13 i i0 i1, n6 i i0 i1]; exact c1 i i0 i1, fun i i0 i1 i2 => by rw [n6 i i1 i2]; exact c2 i i0 i1 i2⟩, fun t t0 t1 => by rw [(h16 t t0 t1).1, (h16 t t0 t1).2, n22 t t0 t1]; exact d1 t t0 t1, ⟨e1, e2, e3⟩, fun i i0 i1 => by rw [h15 i i0 (by (clear h08 hx h13 h15 h16 hN h19 hq a1 a2 a3 a4 a5 a6 b1 b2 b3 c1 c2 d1 e4 e5 h0 n6 n22 n26 i0; lia)), n26 i i0 (by omega)]; exact e4 i i0 i1, fun i i0 i1 => by rw [n26 i (by (clear h08 hx h13 h15 h16 hN h19 hq a1 a2 a3 a4 a5 a6 b1 b2 b3 c1 c2 d1 e4 e5 h0 n6 n22 n26 i1; lia)) i1]; exact e5 i i0 i1⟩
/-! the queue is lost -/
def lsX (k p : Int) : Nat → Int → mm_ → mm_
  | 0, _, M => M
  | n + 1, i, M => lsX k p n (i + 1) (loX M p (M 15 (30 * k + 5 * i)) (M 15 (30 * k + 5 * i + 1)))
def lsQ (k p : Int) : Nat → Int → mm_ → mm_
  | 0, _, N => N
  | n + 1, i, N => lsQ k p n (i + 1) (loQ N p (N 239 (sB k + 26 + 5 * i)) (N 239 (sB k + 27 + 5 * i)))
theorem LoX_tr [Inhabited fz_] {M1 : mm_} (h : LoX M M1) (g : LoX M1 M') : LoX M M' := ⟨fun r h1 h2 => (g.1 r h1 h2).trans (h.1 r h1 h2), fun i hi => (g.2 i hi).trans (h.2 i hi)⟩
theorem LoQ_tr [Inhabited fz_] {N1 : mm_} (h : LoQ N N1) (g : LoQ N1 N') : LoQ N N' := ⟨fun r h1 h2 => (g.1 r h1 h2).trans (h.1 r h1 h2), fun i hi => (g.2 i hi).trans (h.2 i hi)⟩
theorem ls_f [Inhabited fz_] : ∀ (n : Nat) (i : Int) (M N : mm_), LoX M (lsX k p n i M) ∧ LoQ N (lsQ k p n i N)
  | 0, _, _, _ => ⟨⟨fun _ _ _ => rfl, fun _ _ => rfl⟩, ⟨fun _ _ _ => rfl, fun _ _ => rfl⟩⟩
  | n + 1, i, M, N => ⟨LoX_tr LoX_lo (ls_f n (i + 1) _ N).1, LoQ_tr LoQ_lo (ls_f n (i + 1) M _).2⟩
theorem RU_ls [Inhabited fz_] : ∀ (n : Nat) (i : Int) (M N : mm_), RU z M N → (0 ≤ k ∧ k < M 0 7) → 0 ≤ i → i + n = M 14 k → RU z (lsX k p n i M) (lsQ k p n i N)
  | 0, _, _, _, h, _, _, _ => h
  | n + 1, i, M, N, h, hk, i0, hi => by
    have j := (h.1.2.2.1 k hk.1 hk.2).2.2.2.2
    have e1 := j.2.1 (5 * i) (by omega) (by omega)
    have e2 := j.2.1 (5 * i + 1) (by omega) (by (clear h hk i0 j e1; lia))
    unfold lsX lsQ
    rw [show sB k + 27 + 5 * i = sB k + 26 + (5 * i + 1) by (clear h hk i0 hi j e1 e2; lia), ← e1, ← e2, show 30 * k + (5 * i + 1) = 30 * k + 5 * i + 1 by (clear h hk i0 hi j e1 e2; lia)]
    exact RU_ls n (i + 1) _ _ (RU_lo h) (by rw [LoX_lo.2 7 (by decide)]; exact hk) (by omega) (by rw [LoX_lo.1 14 (by decide) (by decide)]; omega)
/-! the others move up -/
def SFX (M : mm_) (k c0 c1 c2 c3 : Int) (A : mm_) : Prop := (∀ r : Nat, r ∈ [10, 11, 12, 14, 18, 19, 20] → A r = cpf (M r) k c0 1) ∧ A 13 = cpf (M 13) (16 * k) c1 16 ∧ A 15 = cpf (M 15) (30 * k) c2 30 ∧ A 16 = cpf (M 16) (3 * k) c3 3 ∧ A 17 = cpf (M 17) (3 * k) c3 3 ∧ ∀ r : Nat, r ∉ [10, 11, 12, 13, 14, 15, 16, 17, 18, 19, 20] → A r = M r
def sfX (M : mm_) (k j : Int) : mm_ := fun r => if r ∈ [10, 11, 12, 14, 18, 19, 20] then cpf (M r) k j 1 else if r = 13 then cpf (M 13) (16 * k) (16 * j) 16 else if r = 15 then cpf (M 15) (30 * k) (30 * j) 30 else if r = 16 then cpf (M 16) (3 * k) (3 * j) 3 else if r = 17 then cpf (M 17) (3 * k) (3 * j) 3 else M r
theorem SFX_e [Inhabited fz_] {A : mm_} {j : Int} (h : SFX M k j (16 * j) (30 * j) (3 * j) A) : A = sfX M k j := by
  obtain ⟨h1, h2, h3, h4, h5, h6⟩ := h
  funext r
  unfold sfX
  by_cases c : r ∈ [10, 11, 12, 14, 18, 19, 20]
  · rw [if_pos c]; exact h1 r c
  · rw [if_neg c]
    by_cases c13 : r = 13
    · rw [if_pos c13, c13]; exact h2
    · rw [if_neg c13]
      by_cases c15 : r = 15
      · rw [if_pos c15, c15]; exact h3
      · rw [if_neg c15]
        by_cases c16 : r = 16
        · rw [if_pos c16, c16]; exact h4
        · rw [if_neg c16]
          by_cases c17 : r = 17
          · rw [if_pos c17, c17]; exact h5
          · rw [if_neg c17]
            exact h6 r (fun e => by simp only [List.mem_cons, List.not_mem_nil, or_false] at e c; (clear h1 h2 h3 h4 h5 h6; lia))
theorem SFX_0 [Inhabited fz_] : SFX M k k (16 * k) (30 * k) (3 * k) M := ⟨fun r _ => cpf_0.symm, cpf_0.symm, cpf_0.symm, cpf_0.symm, cpf_0.symm, fun _ _ => rfl⟩
/-- one place of a copy -/
theorem cpf_1 [Inhabited fz_] {A : mm_} {r : Nat} {f : Int → Int} {lo x δ : Int} (h : A r = cpf f lo x δ) (h0 : lo ≤ x) (hd : 0 < δ) : up_ A r x (A r (x + δ)) r = cpf f lo (x + 1) δ := by
  have e : A = wr_ A r (cpf f lo x δ) := by rw [← h, wr_id]
  have s := cpf_s (M := A) (r := r) (f := f) (lo := lo) (x := x) (δ := δ) h0 hd
  rw [← e] at s
  rw [h, s, wr_same]
theorem SFX_s [Inhabited fz_] {A : mm_} {j c1 c2 c3 : Int} (h : SFX M k j c1 c2 c3 A) (h0 : k ≤ j) : SFX M k (j + 1) c1 c2 c3 (up_ (up_ (up_ (up_ (up_ (up_ (up_ A 10 j (A 10 (j + 1))) 11 j (A 11 (j + 1))) 12 j (A 12 (j + 1))) 14 j (A 14 (j + 1))) 18 j (A 18 (j + 1))) 19 j (A 19 (j + 1))) 20 j (A 20 (j + 1))) := by
  obtain ⟨h1, h2, h3, h4, h5, h6⟩ := h
  have o : ∀ (B : mm_) (r : Nat), B r = A r → up_ B r j (A r (j + 1)) r = up_ A r j (A r (j + 1)) r := fun B r e => by unfold up_; rw [if_pos rfl, if_pos rfl, e]
  refine ⟨fun r hr => ?_, ?_, ?_, ?_, ?_, fun r hr => ?_⟩
  · simp only [List.mem_cons, List.not_mem_nil, or_false] at hr
    rcases hr with e | e | e | e | e | e | e <;> subst e
    · rw [up_ne (by decide), up_ne (by decide), up_ne (by decide), up_ne (by decide), up_ne (by decide), up_ne (by decide)]; exact cpf_1 (h1 10 (by decide)) h0 (by decide)
    · rw [up_ne (by decide), up_ne (by decide), up_ne (by decide), up_ne (by decide), up_ne (by decide), o _ 11 (by rw [up_ne (by decide)])]; exact cpf_1 (h1 11 (by decide)) h0 (by decide)
    · rw [up_ne (by decide), up_ne (by decide), up_ne (by decide), up_ne (by decide), o _ 12 (by rw [up_ne (by decide), up_ne (by decide)])]; exact cpf_1 (h1 12 (by decide)) h0 (by decide)
    · rw [up_ne (by decide), up_ne (by decide), up_ne (by decide), o _ 14 (by rw [up_ne (by decide), up_ne (by decide), up_ne (by decide)])]; exact cpf_1 (h1 14 (by decide)) h0 (by decide)
    · rw [up_ne (by decide), up_ne (by decide), o _ 18 (by rw [up_ne (by decide), up_ne (by decide), up_ne (by decide), up_ne (by decide)])]; exact cpf_1 (h1 18 (by decide)) h0 (by decide)
    · rw [up_ne (by decide), o _ 19 (by rw [up_ne (by decide), up_ne (by decide), up_ne (by decide), up_ne (by decide), up_ne (by decide)])]; exact cpf_1 (h1 19 (by decide)) h0 (by decide)
    · rw [o _ 20 (by rw [up_ne (by decide), up_ne (by decide), up_ne (by decide), up_ne (by decide), up_ne (by decide), up_ne (by decide)])]; exact cpf_1 (h1 20 (by decide)) h0 (by decide)
  · rw [up_ne (by decide), up_ne (by decide), up_ne (by decide), up_ne (by decide), up_ne (by decide), up_ne (by decide), up_ne (by decide)]; exact h2
  · rw [up_ne (by decide), up_ne (by decide), up_ne (by decide), up_ne (by decide), up_ne (by decide), up_ne (by decide), up_ne (by decide)]; exact h3
  · rw [up_ne (by decide), up_ne (by decide), up_ne (by decide), up_ne (by decide), up_ne (by decide), up_ne (by decide), up_ne (by decide)]; exact h4
  · rw [up_ne (by decide), up_ne (by decide), up_ne (by decide), up_ne (by decide), up_ne (by decide), up_ne (by decide), up_ne (by decide)]; exact h5
  · have e : ∀ x : Nat, x ∈ [10, 11, 12, 13, 14, 15, 16, 17, 18, 19, 20] → r ≠ x := fun x hx e => hr (by rw [e]; exact hx)
    rw [up_ne (e 20 (by decide)), up_ne (e 19 (by decide)), up_ne (e 18 (by decide)), up_ne (e 14 (by decide)), up_ne (e 12 (by decide)), up_ne (e 11 (by decide)), up_ne (e 10 (by decide))]; exact h6 r hr
theorem SFX_13 [Inhabited fz_] {A : mm_} {j c1 c2 c3 : Int} (h : SFX M k j c1 c2 c3 A) (h0 : 16 * k ≤ c1) : SFX M k j (c1 + 1) c2 c3 (up_ A 13 c1 (A 13 (c1 + 16))) := by
  obtain ⟨h1, h2, h3, h4, h5, h6⟩ := h
  exact ⟨fun r hr => by rw [up_ne (fun e => by rw [e] at hr; revert hr; decide)]; exact h1 r hr, cpf_1 h2 h0 (by decide), by rw [up_ne (by decide)]; exact h3, by rw [up_ne (by decide)]; exact h4, by rw [up_ne (by decide)]; exact h5, fun r hr => by rw [up_ne (fun e => hr (by rw [e]; decide))]; exact h6 r hr⟩
theorem SFX_15 [Inhabited fz_] {A : mm_} {j c1 c2 c3 : Int} (h : SFX M k j c1 c2 c3 A) (h0 : 30 * k ≤ c2) : SFX M k j c1 (c2 + 1) c3 (up_ A 15 c2 (A 15 (c2 + 30))) := by
  obtain ⟨h1, h2, h3, h4, h5, h6⟩ := h
  exact ⟨fun r hr => by rw [up_ne (fun e => by rw [e] at hr; revert hr; decide)]; exact h1 r hr, by rw [up_ne (by decide)]; exact h2, cpf_1 h3 h0 (by decide), by rw [up_ne (by decide)]; exact h4, by rw [up_ne (by decide)]; exact h5, fun r hr => by rw [up_ne (fun e => hr (by rw [e]; decide))]; exact h6 r hr⟩
theorem SFX_16 [Inhabited fz_] {A : mm_} {j c1 c2 c3 : Int} (h : SFX M k j c1 c2 c3 A) (h0 : 3 * k ≤ c3) : SFX M k j c1 c2 (c3 + 1) (up_ (up_ A 16 c3 (A 16 (c3 + 3))) 17 c3 (A 17 (c3 + 3))) := by
  obtain ⟨h1, h2, h3, h4, h5, h6⟩ := h
  refine ⟨fun r hr => by rw [up_ne (fun e => by rw [e] at hr; revert hr; decide), up_ne (fun e => by rw [e] at hr; revert hr; decide)]; exact h1 r hr, by rw [up_ne (by decide), up_ne (by decide)]; exact h2, by rw [up_ne (by decide), up_ne (by decide)]; exact h3, by rw [up_ne (by decide)]; exact cpf_1 h4 h0 (by decide), ?_, fun r hr => by rw [up_ne (fun e => hr (by rw [e]; decide)), up_ne (fun e => hr (by rw [e]; decide))]; exact h6 r hr⟩
  have : up_ (up_ A 16 c3 (A 16 (c3 + 3))) 17 c3 (A 17 (c3 + 3)) 17 = up_ A 17 c3 (A 17 (c3 + 3)) 17 := by unfold up_; rw [if_pos rfl, if_pos rfl, if_neg (by decide)]
  rw [this]; exact cpf_1 h5 h0 (by decide)
def stpX (M : mm_) (k : Int) : mm_ := sfX (up_ M 0 7 (M 0 7 - 1)) k (M 0 7 - 1)
def stpQ (N : mm_) (k : Int) : mm_ := wr_ N 239 (su_ (flf (cpf (N 239) (sB k) (sB (N 239 0 - 1)) 56) (sB (N 239 0 - 1)) (sB (N 239 0)) 0) 0 (N 239 0 - 1))
theorem RU_sf [Inhabited fz_] (h : RU z M N) (hk : 0 ≤ k ∧ k < M 0 7) : RU z (stpX M k) (stpQ N k) := by
  obtain ⟨h1, h2, h3, h4, h5⟩ := h
  obtain ⟨a1, a2, a3, a4⟩ := id h1
  have xr : ∀ r : Nat, r ∉ [10, 11, 12, 13, 14, 15, 16, 17, 18, 19, 20] → stpX M k r = up_ M 0 7 (M 0 7 - 1) r := fun r hr => by
    have e : ∀ x : Nat, x ∈ [10, 11, 12, 13, 14, 15, 16, 17, 18, 19, 20] → r ≠ x := fun x hx e => hr (by rw [e]; exact hx)
    unfold stpX sfX
    rw [if_neg (fun c => hr (by simp only [List.mem_cons, List.not_mem_nil, or_false] at c ⊢; (clear hk h1 h2 h3 h4 h5 a1 a2 a3 a4 hr e; lia))), if_neg (e 13 (by decide)), if_neg (e 15 (by decide)), if_neg (e 16 (by decide)), if_neg (e 17 (by decide))]
  have x0 : ∀ i : Int, i ≠ 7 → stpX M k 0 i = M 0 i := fun i hi => by rw [xr 0 (by decide), upo hi]
  have x7 : stpX M k 0 7 = M 0 7 - 1 := by rw [xr 0 (by decide), up_at]
  have xq : ∀ r : Nat, r ∈ [10, 11, 12, 14, 18, 19, 20] → stpX M k r = cpf (M r) k (M 0 7 - 1) 1 := fun r hr => by
    unfold stpX sfX; rw [if_pos hr, up_ne (fun e => by rw [e] at hr; revert hr; decide)]
  have x13 : stpX M k 13 = cpf (M 13) (16 * k) (16 * (M 0 7 - 1)) 16 := by unfold stpX sfX; rw [if_neg (by decide), if_pos rfl, up_ne (by decide)]
  have x15 : stpX M k 15 = cpf (M 15) (30 * k) (30 * (M 0 7 - 1)) 30 := by unfold stpX sfX; rw [if_neg (by decide), if_neg (by decide), if_pos rfl, up_ne (by decide)]
  have x16 : stpX M k 16 = cpf (M 16) (3 * k) (3 * (M 0 7 - 1)) 3 := by unfold stpX sfX; rw [if_neg (by decide), if_neg (by decide), if_neg (by decide), if_pos rfl, up_ne (by decide)]
  have x17 : stpX M k 17 = cpf (M 17) (3 * k) (3 * (M 0 7 - 1)) 3 := by unfold stpX sfX; rw [if_neg (by decide), if_neg (by decide), if_neg (by decide), if_neg (by decide), if_pos rfl, up_ne (by decide)]
  have hB : sB k = 2 + 56 * k := rfl
  have hB1 : sB (M 0 7 - 1) = 2 + 56 * (M 0 7 - 1) := rfl
  have hB2 : sB (M 0 7) = 2 + 56 * M 0 7 := rfl
  have n239 : stpQ N k 239 = su_ (flf (cpf (N 239) (sB k) (sB (M 0 7 - 1)) 56) (sB (M 0 7 - 1)) (sB (M 0 7)) 0) 0 (M 0 7 - 1) := by unfold stpQ; rw [wr_same, a1.2.2]
  have nr : ∀ r : Nat, r ≠ 239 → stpQ N k r = N r := fun r hr => wr_ne hr
  have no : ∀ i, i ≠ 0 → (i < sB k ∨ sB (M 0 7) ≤ i) → stpQ N k 239 i = N 239 i := fun i i0 hi => by
    rw [n239]; unfold su_ flf cpf; rw [if_neg i0, if_neg (by (clear h1 h2 h3 h4 h5 a2 a3 a4 xr x0 xq x13 x15 x16 x17 n239 nr i0; lia))]; exact if_neg (by omega)
  have ns : ∀ i, sB k ≤ i → i < sB (M 0 7 - 1) → stpQ N k 239 i = N 239 (i + 56) := fun i i0 hi => by
    rw [n239]; unfold su_ flf cpf; rw [if_neg (by (clear h1 h2 h3 h4 h5 a1 a2 a3 a4 xr x0 x7 xq x13 x15 x16 x17 hB1 hB2 n239 nr no hi; omega)), if_neg (by omega)]; exact if_pos (by omega)
  have nz : ∀ i, sB (M 0 7 - 1) ≤ i → i < sB (M 0 7) → stpQ N k 239 i = 0 := fun i i0 hi => by
    rw [n239]; unfold su_ flf; rw [if_neg (by (clear h1 h2 h3 h4 h5 a2 a3 a4 xr x0 xq x13 x15 x16 x17 hB n239 nr no ns; lia))]; exact if_pos (by (clear hk h1 h2 h3 h4 h5 a2 a3 a4 xr x0 xq x13 x15 x16 x17 hB n239 nr no ns; lia))
  refine ⟨⟨by rw [x7, n239]; unfold su_; rw [if_pos rfl]; (clear h1 h2 h3 h4 h5 a2 a3 a4 xr x0 xq x13 x15 x16 x17 hB hB1 hB2 n239 nr no ns nz; lia), by rw [x0 8 (by decide), no 1 (by decide) (by omega)]; exact a2, fun j j0 j1 => ?_, fun j j0 j1 i i0 i1 => ?_⟩, RRt_k h2 (by rw [xr 21 (by decide), up_ne (by decide)]) (by rw [xr 22 (by decide), up_ne (by decide)]) (fun i hi => no i (by omega) (by (clear h1 h2 h3 h4 h5 a2 a3 a4 xr x0 xq x13 x15 x16 x17 hB hB1 n239 nr no ns nz; lia))) (by rw [nr 6 (by decide)]), RSC_c h3 (fun i hi => x0 i (fun e => by rw [e] at hi; revert hi; decide)) (fun i _ => by rw [nr 6 (by decide)]), ROU_c h4 (fun i hi => x0 i (fun e => by rw [e] at hi; revert hi; decide)) (by rw [xr 24 (by decide), up_ne (by decide)]) (fun i _ => by rw [nr 6 (by decide)]) (nr 241 (by decide)), REV_c h5 (fun i hi => x0 i (fun e => by rw [e] at hi; revert hi; decide)) (by rw [xr 23 (by decide), up_ne (by decide)]) (fun i _ => by rw [nr 6 (by decide)]) (nr 240 (by decide))⟩
  · rw [x7] at j1
    have hJ : sB j = 2 + 56 * j := rfl
    by_cases c : j < k
    · refine IN_o (a3 j j0 (by omega)) (by rw [x0 8 (by decide)]; exact Int.le_refl _) (fun q hq => ?_) (fun i i0 i1 => ?_) (fun i i0 i1 => ?_) (fun i i0 i1 => ?_) (fun i i0 i1 => no _ (by (clear hk h1 h2 h3 h4 h5 a1 a2 a3 a4 xr x0 x7 xq x13 x15 x16 x17 hB hB1 hB2 n239 nr no ns nz j1 c; lia)) (by omega)) (by rw [nr 6 (by decide)]) (fun q hq => nr q (fun e => by rw [e] at hq; revert hq; decide))
      · rw [xq q hq]; unfold cpf; rw [if_neg (by (clear hk h1 h2 h3 h4 h5 a1 a2 a3 a4 xr x0 x7 xq x13 x15 x16 x17 hB hB1 hB2 n239 nr no ns nz j0 j1 hJ hq; omega))]
      · rw [x13]; unfold cpf; rw [if_neg (by (clear hk h1 h2 h3 h4 h5 a1 a2 a3 a4 xr x0 x7 xq x13 x15 x16 x17 hB hB1 hB2 n239 nr no ns nz j0 j1 hJ; lia))]
      · rw [x15]; unfold cpf; rw [if_neg (by (clear hk h1 h2 h3 h4 h5 a1 a2 a3 a4 xr x0 x7 xq x13 x15 x16 x17 hB hB1 hB2 n239 nr no ns nz j0 j1 hJ; omega))]
      · rw [x16, x17]; unfold cpf; rw [if_neg (by (clear hk h1 h2 h3 h4 h5 a1 a2 a3 a4 xr x0 x7 xq x13 x15 x16 x17 hB hB1 hB2 n239 nr no ns nz j0 j1 hJ; omega)), if_neg (by omega)]; exact ⟨rfl, rfl⟩
    · refine IN_m (k' := j + 1) (a3 (j + 1) (by (clear hk h1 h2 h3 h4 h5 a1 a2 a3 a4 xr x0 x7 xq x13 x15 x16 x17 hB hB1 hB2 n239 nr no ns nz j1 hJ c; omega)) (by omega)) (by rw [x0 8 (by decide)]; exact Int.le_refl _) (fun q hq => ?_) (fun i i0 i1 => ?_) (fun i i0 i1 => ?_) (fun i i0 i1 => ?_) (fun i i0 i1 => ?_) (by rw [nr 6 (by decide)]) (fun q hq => nr q (fun e => by rw [e] at hq; revert hq; decide))
      · rw [xq q hq]; unfold cpf; rw [if_pos (by (clear hk h1 h2 h3 h4 h5 a2 a3 a4 xr x0 xq x13 x15 x16 x17 hB hB1 hB2 n239 nr no ns nz j0 hJ hq; omega))]
      · rw [x13]; unfold cpf; rw [if_pos (by (clear hk h1 h2 h3 h4 h5 a2 a3 a4 xr x0 xq x13 x15 x16 x17 hB hB1 hB2 n239 nr no ns nz j0 hJ; omega))]; congr 1; (clear hk h1 h2 h3 h4 h5 a1 a2 a3 a4 xr x0 x7 xq x13 x15 x16 x17 hB hB1 hB2 n239 nr no ns nz j0 j1 hJ c i0 i1; lia)
      · rw [x15]; unfold cpf; rw [if_pos (by (clear hk h1 h2 h3 h4 h5 a2 a3 a4 xr x0 xq x13 x15 x16 x17 hB hB1 hB2 n239 nr no ns nz j0 hJ; lia))]; congr 1; (clear hk h1 h2 h3 h4 h5 a1 a2 a3 a4 xr x0 x7 xq x13 x15 x16 x17 hB hB1 hB2 n239 nr no ns nz j0 j1 hJ c i0 i1; lia)
      · rw [x16, x17]; unfold cpf; rw [if_pos (by (clear hk h1 h2 h3 h4 h5 a2 a3 a4 xr x0 xq x13 x15 x16 x17 hB hB1 hB2 n239 nr no ns nz j0 hJ; lia)), if_pos (by omega)]; exact ⟨by congr 1; (clear hk h1 h2 h3 h4 h5 a1 a2 a3 a4 xr x0 x7 xq x13 x15 x16 x17 hB hB1 hB2 n239 nr no ns nz j0 j1 hJ c i0 i1; lia), by congr 1; (clear hk h1 h2 h3 h4 h5 a1 a2 a3 a4 xr x0 x7 xq x13 x15 x16 x17 hB hB1 hB2 n239 nr no ns nz j0 j1 hJ c i0 i1; lia)⟩
      · rw [ns _ (by (clear hk h1 h2 h3 h4 h5 a1 a2 a3 a4 xr x0 x7 xq x13 x15 x16 x17 hB1 hB2 n239 nr no ns nz j0 j1; lia)) (by (clear hk h1 h2 h3 h4 h5 a2 a3 a4 xr x0 xq x13 x15 x16 x17 hB hB2 n239 nr no ns nz j0 c; omega))]; congr 1; unfold sB; (clear hk h1 h2 h3 h4 h5 a1 a2 a3 a4 xr x0 x7 xq x13 x15 x16 x17 hB hB1 hB2 n239 nr no ns nz j0 j1 hJ c i0 i1; lia)
  · rw [x7] at j0
    have hJ : sB j = 2 + 56 * j := rfl
    by_cases c : j = M 0 7 - 1
    · exact nz _ (by (clear hk h1 h2 h3 h4 h5 a2 a3 a4 xr x0 xq x13 x15 x16 x17 hB hB2 n239 nr no ns nz j0 j1; lia)) (by (clear hk h1 h2 h3 h4 h5 a2 a3 a4 xr x0 xq x13 x15 x16 x17 hB hB1 n239 nr no ns nz j0 j1; lia))
    · rw [no _ (by (clear h1 h2 h3 h4 h5 a2 a3 a4 xr x0 xq x13 x15 x16 x17 hB hB1 hB2 n239 nr no ns nz j1 c; omega)) (by (clear hk h1 h2 h3 h4 h5 a2 a3 a4 xr x0 xq x13 x15 x16 x17 hB hB1 n239 nr no ns nz j1; lia))]; exact a4 j (by (clear hk h1 h2 h3 h4 h5 a2 a3 a4 xr x0 xq x13 x15 x16 x17 hB hB1 hB2 n239 nr no ns nz j1 i0 i1 hJ; lia)) j1 i i0 i1
end STa
end T340_st
section T341_st
/-! the run: stops walked (X 32 | Q 348) -/
def stopX (M : mm_) (k : Int) : mm_ := stpX (lsX k (M 10 k) (M 14 k).toNat 0 (evX M 6 (M 10 k) (-1) 0)) k
def stopQ (N : mm_) (k : Int) : mm_ := stpQ (lsQ k (N 239 (sB k)) (N 239 (sB k + 25)).toNat 0 (evQ N 6 (N 239 (sB k)) (-1) 0)) k
section SWa
variable {z : Int} {M N M' N' : mm_} {k p : Int}
theorem RU_stp [Inhabited fz_] (h : RU z M N) (hk : 0 ≤ k ∧ k < M 0 7) : RU z (stopX M k) (stopQ N k) := by
  have hi := h.1.2.2.1 k hk.1 hk.2
  unfold stopX stopQ
  rw [← hi.1.1, hi.2.2.2.2.1.2.2]
  have h1 := RU_ev (k := 6) (a := M 10 k) (s := -1) (b := 0) h
  have e7 : evX M 6 (M 10 k) (-1) 0 0 7 = M 0 7 := EvX_ev.2 7 (by decide) (by decide)
  have e14 : evX M 6 (M 10 k) (-1) 0 14 = M 14 := EvX_ev.1 14 (by decide) (by decide)
  have h2 := RU_ls (k := k) (p := M 10 k) (M 14 k).toNat 0 _ _ h1 (by rw [e7]; exact hk) (by decide) (by rw [e14]; have := hi.2.2.2.2.1; (clear h hk hi h1 e7 e14; lia))
  refine RU_sf h2 ?_
  rw [(ls_f (k := k) (p := M 10 k) (M 14 k).toNat 0 _ N).1.2 7 (by decide), e7]; exact hk
theorem x_32 [Inhabited fz_] (h : RU z M N) (hk : 0 ≤ k ∧ k < M 0 7) : Ex_ 3 32 [.inr (.inr 0), .inl k] M [] (stopX M k) := fun Qr Qt hq => t_32 fun V hV hW => b_32_0 (Tr_mono _) hV hW _ _ (by
  have n12 := h.1.1
  have hi := h.1.2.2.1 k hk.1 hk.2
  obtain ⟨b1, b2, b3⟩ := RU_b5 h
  refine ⟨by omega, Ex_le (d := 1) (by decide) (x_5 b1 b2 b3) _ _ (rv_i ?_)⟩
  have h1 := RU_ev (k := 6) (a := M 10 k) (s := -1) (b := 0) h
  have e7 : evX M 6 (M 10 k) (-1) 0 0 7 = M 0 7 := EvX_ev.2 7 (by decide) (by decide)
  have e14 : evX M 6 (M 10 k) (-1) 0 14 = M 14 := EvX_ev.1 14 (by decide) (by decide)
  unfold stopX at hq
  generalize evX M 6 (M 10 k) (-1) 0 = M1 at *
  generalize evQ N 6 (M 10 k) (-1) 0 = N1 at *
  -- the others move up
  have mv : ∀ A : mm_, RU z A A ∨ (A 0 7 = M 0 7 ∧ ∀ i, A 16 i = 0 ∨ A 16 i = 1 ∨ True) → A 0 7 = M 0 7 → Qr [] (stpX A k) → V 73 [rr 0, ii k, ii (M 10 k), ii k, none] [] (up_ A 0 7 (A 0 7 - 1)) := fun A _ e hA => by
    have fin : ∀ B, SFX (up_ A 0 7 (A 0 7 - 1)) k (A 0 7 - 1) (16 * (A 0 7 - 1)) (30 * (A 0 7 - 1)) (3 * (A 0 7 - 1)) B → Qr [] B := fun B hB => by
      rw [SFX_e hB]; exact hA
    generalize eU : up_ A 0 7 (A 0 7 - 1) = U at *
    have u7 : U 0 7 = M 0 7 - 1 := by rw [← eU, up_at, e]
    have main : ∀ (n : Nat) (j : Int) (B : mm_), j + n = M 0 7 - 1 → k ≤ j → SFX U k j (16 * j) (30 * j) (3 * j) B → V 73 [rr 0, ii k, ii (M 10 k), ii j, none] [] B := fun n => by
      induction n with
      | zero =>
        intro j B hj kj hB
        refine b_32_73 (Tr_mono _) hV hW _ _ _ _ ?_
        rw [hB.2.2.2.2.2 0 (by decide), u7, if_neg (by (clear h hk hV hW hi b1 b2 b3 hq e14 h1 hA eU fin kj hB; lia))]
        have ej : j = A 0 7 - 1 := by (clear h hk hV hW hi b1 b2 b3 hq e14 h1 hA eU fin kj hB; lia)
        rw [ej] at hB; exact fin B hB
      | succ n ih =>
        intro j B hj kj hB
        refine b_32_73 (Tr_mono _) hV hW _ _ _ _ ?_
        rw [hB.2.2.2.2.2 0 (by decide), u7, if_pos (by (clear h hk hV hW hi b1 b2 b3 hq e14 h1 hA eU fin ih kj hB; omega)), w32_id (x := j + 1) (by (clear h hV hW n12 hi b1 b2 b3 hq e7 e14 h1 e hA eU fin u7 ih hj hB; omega)) (by (clear h hV hW hi b1 b2 b3 hq e14 h1 hA eU fin ih kj hB; lia))]
        refine ⟨by (clear h hV hW hi b1 b2 b3 hq e14 h1 hA eU fin ih hB; lia), by (clear h hV hW hi b1 b2 b3 hq e14 h1 hA eU fin ih hB; lia), by omega, by omega, by (clear h hV hW hi b1 b2 b3 hq e14 h1 hA eU fin ih hB; omega), by omega, by (clear h hV hW hi b1 b2 b3 hq e14 h1 hA eU fin ih hB; omega), by omega, by omega, by omega, by (clear h hV hW hi b1 b2 b3 hq e14 h1 hA eU fin ih hB; omega), by omega, by (clear h hV hW hi b1 b2 b3 hq e14 h1 hA eU fin ih hB; omega), by omega, ?_⟩
        have l3 : ∀ (m : Nat) (t : Int) (C : mm_), t + m = 3 → 0 ≤ t → SFX U k (j + 1) (16 * (j + 1)) (30 * (j + 1)) (3 * j + t) C → V 266 [rr 0, ii k, ii (M 10 k), ii j, ii t] [] C := fun m => by
          induction m with
          | zero =>
            intro t C ht t0 hC
            refine b_32_266 (Tr_mono _) hV hW _ _ _ _ _ ?_
            rw [if_neg (by (clear h hk hV hW n12 hi b1 b2 b3 hq e7 e14 h1 e hA eU fin u7 ih hj kj hB t0 hC; omega)), w32_id (x := j + 1) (by omega) (by (clear h hV hW hi b1 b2 b3 hq e14 h1 hA eU fin ih kj hB ht t0 hC; omega))]
            rw [show 3 * j + t = 3 * (j + 1) by (clear h hk hV hW n12 hi b1 b2 b3 hq e7 e14 h1 e hA eU fin u7 ih hj kj hB t0 hC; lia)] at hC
            exact ih (j + 1) C (by (clear h hk hV hW hi b1 b2 b3 hq e14 h1 hA eU fin ih kj hB ht t0 hC; omega)) (by (clear h hk hV hW n12 hi b1 b2 b3 hq e7 e14 h1 e hA eU fin u7 ih hj hB ht t0 hC; omega)) hC
          | succ m ih2 =>
            intro t C ht t0 hC
            refine b_32_266 (Tr_mono _) hV hW _ _ _ _ _ ?_
            rw [if_pos (by (clear h hk hV hW n12 hi b1 b2 b3 hq e7 e14 h1 e hA eU fin u7 ih hj kj hB ih2 hC; omega)), w32_id (x := j + 1) (by (clear h hV hW n12 hi b1 b2 b3 hq e7 e14 h1 e hA eU fin u7 ih hj hB ih2 ht t0 hC; omega)) (by (clear h hV hW hi b1 b2 b3 hq e14 h1 hA eU fin ih kj hB ih2 ht t0 hC; omega)), w32_id (x := 3 * (j + 1)) (by omega) (by (clear h hV hW hi b1 b2 b3 hq e14 h1 hA eU fin ih kj hB ih2 ht t0 hC; lia)), w32_id (x := 3 * (j + 1) + t) (by omega) (by omega), w32_id (x := 3 * j) (by (clear h hV hW n12 hi b1 b2 b3 hq e7 e14 h1 e hA eU fin u7 ih hj hB ih2 ht t0 hC; lia)) (by (clear h hV hW hi b1 b2 b3 hq e14 h1 hA eU fin ih kj hB ih2 ht t0 hC; lia)), w32_id (x := 3 * j + t) (by (clear h hV hW n12 hi b1 b2 b3 hq e7 e14 h1 e hA eU fin u7 ih hj hB ih2 hC; omega)) (by (clear h hV hW hi b1 b2 b3 hq e14 h1 hA eU fin ih kj hB ih2 hC; lia)), w32_id (x := t + 1) (by (clear h hk hV hW n12 hi b1 b2 b3 hq e7 e14 h1 e hA eU fin u7 ih hj kj hB ih2 hC; omega)) (by (clear h hk hV hW n12 hi b1 b2 b3 hq e7 e14 h1 e hA eU fin u7 ih hj kj hB ih2 hC; omega))]
            refine ⟨by (clear h hV hW hi b1 b2 b3 hq e14 h1 hA eU fin ih hB ih2 hC; omega), fun hb => ⟨⟨by (clear h hV hW hi b1 b2 b3 hq e14 h1 hA eU fin ih hB ih2 hC hb; lia), hb⟩, by omega, by (clear h hV hW hi b1 b2 b3 hq e14 h1 hA eU fin ih hB ih2 hC hb; omega), ?_⟩⟩
            have s := SFX_16 hC (by (clear h hk hV hW n12 hi b1 b2 b3 hq e7 e14 h1 e hA eU fin u7 ih hj hB ih2 hC hb; omega))
            rw [show 3 * j + t + 3 = 3 * (j + 1) + t by (clear h hk hV hW n12 hi b1 b2 b3 hq e7 e14 h1 e hA eU fin u7 ih hj kj hB ih2 ht t0 hC hb s; lia), show 3 * j + t + 1 = 3 * j + (t + 1) by (clear h hk hV hW n12 hi b1 b2 b3 hq e7 e14 h1 e hA eU fin u7 ih hj kj hB ih2 ht t0 hC hb s; lia)] at s
            exact ih2 (t + 1) _ (by omega) (by (clear h hk hV hW n12 hi b1 b2 b3 hq e7 e14 h1 e hA eU fin u7 ih hj kj hB ih2 hC hb s; omega)) s
        have l2 : ∀ (m : Nat) (t : Int) (C : mm_), t + m = 30 → 0 ≤ t → SFX U k (j + 1) (16 * (j + 1)) (30 * j + t) (3 * j) C → V 224 [rr 0, ii k, ii (M 10 k), ii j, ii t] [] C := fun m => by
          induction m with
          | zero =>
            intro t C ht t0 hC
            refine b_32_224 (Tr_mono _) hV hW _ _ _ _ _ ?_
            rw [if_neg (by (clear h hk hV hW n12 hi b1 b2 b3 hq e7 e14 h1 e hA eU fin u7 ih hj kj hB l3 t0 hC; omega))]
            rw [show 30 * j + t = 30 * (j + 1) by (clear h hk hV hW n12 hi b1 b2 b3 hq e7 e14 h1 e hA eU fin u7 ih hj kj hB l3 t0 hC; lia)] at hC
            exact l3 3 0 C (by decide) (by decide) (by rw [Int.add_zero]; exact hC)
          | succ m ih2 =>
            intro t C ht t0 hC
            refine b_32_224 (Tr_mono _) hV hW _ _ _ _ _ ?_
            rw [if_pos (by omega), w32_id (x := j + 1) (by omega) (by omega), w32_id (x := 30 * (j + 1)) (by (clear h hV hW n12 hi b1 b2 b3 hq e7 e14 h1 e hA eU fin u7 ih hj hB l3 ih2 ht t0 hC; lia)) (by (clear h hV hW hi b1 b2 b3 hq e14 h1 hA eU fin ih kj hB l3 ih2 ht t0 hC; lia)), w32_id (x := 30 * (j + 1) + t) (by (clear h hV hW n12 hi b1 b2 b3 hq e7 e14 h1 e hA eU fin u7 ih hj hB l3 ih2 hC; omega)) (by (clear h hV hW hi b1 b2 b3 hq e14 h1 hA eU fin ih kj hB l3 ih2 hC; lia)), w32_id (x := 30 * j) (by omega) (by (clear h hV hW hi b1 b2 b3 hq e14 h1 hA eU fin ih kj hB l3 ih2 ht t0 hC; lia)), w32_id (x := 30 * j + t) (by (clear h hV hW n12 hi b1 b2 b3 hq e7 e14 h1 e hA eU fin u7 ih hj hB l3 ih2 hC; lia)) (by (clear h hV hW hi b1 b2 b3 hq e14 h1 hA eU fin ih kj hB l3 ih2 hC; lia)), w32_id (x := t + 1) (by omega) (by omega)]
            refine ⟨by (clear h hV hW hi b1 b2 b3 hq e14 h1 hA eU fin ih hB l3 ih2 hC; omega), by (clear h hV hW hi b1 b2 b3 hq e14 h1 hA eU fin ih hB l3 ih2 hC; lia), ?_⟩
            have s := SFX_15 hC (by (clear h hk hV hW n12 hi b1 b2 b3 hq e7 e14 h1 e hA eU fin u7 ih hj hB l3 ih2 hC; omega))
            rw [show 30 * j + t + 30 = 30 * (j + 1) + t by (clear h hk hV hW n12 hi b1 b2 b3 hq e7 e14 h1 e hA eU fin u7 ih hj kj hB l3 ih2 ht t0 hC s; lia), show 30 * j + t + 1 = 30 * j + (t + 1) by (clear h hk hV hW n12 hi b1 b2 b3 hq e7 e14 h1 e hA eU fin u7 ih hj kj hB l3 ih2 ht t0 hC s; lia)] at s
            exact ih2 (t + 1) _ (by (clear h hk hV hW n12 hi b1 b2 b3 hq e7 e14 h1 e hA eU fin u7 ih hj kj hB l3 ih2 t0 hC s; omega)) (by (clear h hk hV hW n12 hi b1 b2 b3 hq e7 e14 h1 e hA eU fin u7 ih hj kj hB l3 ih2 hC s; omega)) s
        have l1 : ∀ (m : Nat) (t : Int) (C : mm_), t + m = 16 → 0 ≤ t → SFX U k (j + 1) (16 * j + t) (30 * j) (3 * j) C → V 182 [rr 0, ii k, ii (M 10 k), ii j, ii t] [] C := fun m => by
          induction m with
          | zero =>
            intro t C ht t0 hC
            refine b_32_182 (Tr_mono _) hV hW _ _ _ _ _ ?_
            rw [if_neg (by (clear h hk hV hW n12 hi b1 b2 b3 hq e7 e14 h1 e hA eU fin u7 ih hj kj hB l3 l2 t0 hC; omega))]
            rw [show 16 * j + t = 16 * (j + 1) by (clear h hk hV hW n12 hi b1 b2 b3 hq e7 e14 h1 e hA eU fin u7 ih hj kj hB l3 l2 t0 hC; lia)] at hC
            exact l2 30 0 C (by decide) (by decide) (by rw [Int.add_zero]; exact hC)
          | succ m ih2 =>
            intro t C ht t0 hC
            refine b_32_182 (Tr_mono _) hV hW _ _ _ _ _ ?_
            rw [if_pos (by (clear h hk hV hW n12 hi b1 b2 b3 hq e7 e14 h1 e hA eU fin u7 ih hj kj hB l3 l2 ih2 hC; omega)), w32_id (x := j + 1) (by omega) (by (clear h hV hW hi b1 b2 b3 hq e14 h1 hA eU fin ih kj hB l3 l2 ih2 ht t0 hC; omega)), w32_id (x := 16 * (j + 1)) (by omega) (by (clear h hV hW hi b1 b2 b3 hq e14 h1 hA eU fin ih kj hB l3 l2 ih2 ht t0 hC; lia)), w32_id (x := 16 * (j + 1) + t) (by (clear h hV hW n12 hi b1 b2 b3 hq e7 e14 h1 e hA eU fin u7 ih hj hB l3 l2 ih2 hC; lia)) (by omega), w32_id (x := 16 * j) (by (clear h hV hW n12 hi b1 b2 b3 hq e7 e14 h1 e hA eU fin u7 ih hj hB l3 l2 ih2 ht t0 hC; lia)) (by (clear h hV hW hi b1 b2 b3 hq e14 h1 hA eU fin ih kj hB l3 l2 ih2 ht t0 hC; lia)), w32_id (x := 16 * j + t) (by (clear h hV hW n12 hi b1 b2 b3 hq e7 e14 h1 e hA eU fin u7 ih hj hB l3 l2 ih2 hC; omega)) (by (clear h hV hW hi b1 b2 b3 hq e14 h1 hA eU fin ih kj hB l3 l2 ih2 hC; lia)), w32_id (x := t + 1) (by (clear h hk hV hW n12 hi b1 b2 b3 hq e7 e14 h1 e hA eU fin u7 ih hj kj hB l3 l2 ih2 hC; omega)) (by (clear h hk hV hW n12 hi b1 b2 b3 hq e7 e14 h1 e hA eU fin u7 ih hj kj hB l3 l2 ih2 hC; omega))]
            refine ⟨by omega, by (clear h hV hW hi b1 b2 b3 hq e14 h1 hA eU fin ih hB l3 l2 ih2 hC; lia), ?_⟩
            have s := SFX_13 hC (by omega)
            rw [show 16 * j + t + 16 = 16 * (j + 1) + t by (clear h hk hV hW n12 hi b1 b2 b3 hq e7 e14 h1 e hA eU fin u7 ih hj kj hB l3 l2 ih2 ht t0 hC s; lia), show 16 * j + t + 1 = 16 * j + (t + 1) by (clear h hk hV hW n12 hi b1 b2 b3 hq e7 e14 h1 e hA eU fin u7 ih hj kj hB l3 l2 ih2 ht t0 hC s; lia)] at s
            exact ih2 (t + 1) _ (by omega) (by (clear h hk hV hW n12 hi b1 b2 b3 hq e7 e14 h1 e hA eU fin u7 ih hj kj hB l3 l2 ih2 hC s; omega)) s
        have s := SFX_s hB kj
        exact l1 16 0 _ (by decide) (by decide) (by rw [Int.add_zero]; exact s)
    exact main (M 0 7 - 1 - k).toNat k U (by (clear h hV hW hi b1 b2 b3 hq e14 h1 hA eU fin main; lia)) (by omega) SFX_0
  -- the queue
  have lq : ∀ (n : Nat) (i : Int) (A B : mm_), RU z A B → A 0 7 = M 0 7 → A 14 = M 14 → 0 ≤ i → i + n = M 14 k → Qr [] (stpX (lsX k (M 10 k) n i A) k) → V 18 [rr 0, ii k, ii (M 10 k), ii i, none] [] A := fun n => by
    induction n with
    | zero =>
      intro i A B hA a7 a14 i0 hi hA2
      refine b_32_18 (Tr_mono _) hV hW _ _ _ _ ⟨by omega, ?_⟩
      rw [a14, if_neg (by omega), w32_id (x := A 0 7 - 1) (by (clear h hk hV hW b1 b2 b3 hq e14 h1 mv hA a14 i0 hi hA2; lia)) (by (clear h hk hV hW b1 b2 b3 hq e14 h1 mv hA a14 i0 hi hA2; omega))]
      exact mv A (.inr ⟨a7, fun _ => .inr (.inr trivial)⟩) a7 hA2
    | succ n ih =>
      intro i A B hA a7 a14 i0 hi' hA2
      have q6 := hi.2.2.2.2.1
      refine b_32_18 (Tr_mono _) hV hW _ _ _ _ ⟨by (clear h hV hW hi b1 b2 b3 hq e14 h1 mv ih hA a14 i0 hi' hA2 q6; lia), ?_⟩
      rw [a14, if_pos (by (clear h hk hV hW n12 hi b1 b2 b3 hq e7 e14 h1 mv ih hA a7 a14 i0 hA2 q6; omega))]
      refine Ex_le (d := 1) (by decide) (x_9 (by (clear h hV hW hi b1 b2 b3 hq e14 h1 mv ih hA a14 i0 hi' hA2 q6; lia)) (by (clear h hk hV hW n12 hi b1 b2 b3 hq e7 e14 h1 mv ih hA a7 a14 hA2; lia))) _ _ (ri_i ⟨by (clear h hV hW hi b1 b2 b3 hq e14 h1 mv ih hA a14 hA2; lia), Ex_le (d := 1) (by decide) (x_9 (by omega) (by omega)) _ _ (ri_i ?_)⟩)
      rw [w32_id (x := 30 * k + 5 * i + 1) (by (clear h hV hW n12 hi b1 b2 b3 hq e7 e14 h1 mv ih hA a7 a14 hA2; lia)) (by omega), w32_id (x := i + 1) (by omega) (by (clear h hk hV hW n12 hi b1 b2 b3 hq e7 e14 h1 mv ih hA a7 a14 i0 hA2; omega))]
      refine ⟨by (clear h hV hW hi b1 b2 b3 hq e14 h1 mv ih hA a14 hA2; lia), x_7 hA _ _ (rv_i ?_)⟩
      exact ih (i + 1) _ _ (RU_lo hA) (by rw [LoX_lo.2 7 (by decide)]; exact a7) (by rw [LoX_lo.1 14 (by decide) (by decide)]; exact a14) (by omega) (by (clear h hk hV hW n12 hi b1 b2 b3 hq e7 e14 h1 mv ih hA a7 a14 i0 hA2 q6; lia)) hA2
  exact lq (M 14 k).toNat 0 M1 N1 h1 e7 e14 (by decide) (by have := hi.2.2.2.2.1; (clear h hk hV hW n12 hi b1 b2 b3 hq e7 e14 h1 mv lq; omega)) hq)
theorem q_348 [Inhabited fz_] (h : RU z M N) (hk : 0 ≤ k ∧ k < M 0 7) : Ex_ 3 348 [.inr (.inr 6), .inl k] N [] (stopQ N k) := fun Qr Qt hq => t_348 fun V hV hW => b_348_0 (Tr_mono _) hV hW _ _ (by
  have n12 := h.1.1
  have hi := h.1.2.2.1 k hk.1 hk.2
  have hB : sB k = 2 + 56 * k := rfl
  obtain ⟨b1, b2, b3⟩ := RU_b324 h
  refine Ex_le (d := 1) (by decide) (q_323 (by (clear h hq hV hW hi hB b1 b2 b3; omega))) _ _ (ri_i ⟨by omega, Ex_le (d := 1) (by decide) (q_324 b1 b2 b3) _ _ (rv_i ?_)⟩)
  have h1 := RU_ev (k := 6) (a := N 239 (sB k)) (s := -1) (b := 0) h
  have e7 : evX M 6 (N 239 (sB k)) (-1) 0 0 7 = M 0 7 := EvX_ev.2 7 (by decide) (by decide)
  have e239 : evQ N 6 (N 239 (sB k)) (-1) 0 239 = N 239 := EvQ_ev.1 239 (by decide) (by decide)
  unfold stopQ at hq
  generalize evX M 6 (N 239 (sB k)) (-1) 0 = M1 at *
  generalize evQ N 6 (N 239 (sB k)) (-1) 0 = N1 at *
  have q6 := hi.2.2.2.2.1
  have n0 := n12.2.2
  have mv : ∀ A : mm_, A 239 = N 239 → Qr [] (stpQ A k) → V 84 [rr 6, ii k, ii (sB k), ii (N 239 (sB k)), ii (sB k)] [] A := fun A e hA => by
    have hB1 : sB (M 0 7 - 1) = 2 + 56 * (M 0 7 - 1) := rfl
    have hB2 : sB (M 0 7) = 2 + 56 * M 0 7 := rfl
    have g0 : ∀ x, cpf (N 239) (sB k) x 56 0 = M 0 7 := fun x => by unfold cpf; rw [if_neg (by (clear h hV hW n12 hi b1 b2 b3 e7 hq e239 h1 q6 n0 e hA hB1 hB2; omega))]; exact n0
    have f0 : ∀ x, sB (M 0 7 - 1) ≤ x → flf (cpf (N 239) (sB k) (sB (M 0 7 - 1)) 56) (sB (M 0 7 - 1)) x 0 0 = M 0 7 := fun x _ => by unfold flf; rw [if_neg (by (clear h hV hW hi hB b1 b2 b3 hq e239 h1 q6 n0 e hA hB2 g0; omega))]; exact g0 _
    have l2 : ∀ (n : Nat) (x : Int), x + n = sB (M 0 7) → sB (M 0 7 - 1) ≤ x → V 136 [rr 6, ii k, ii (sB k), ii (N 239 (sB k)), ii x] [] (wr_ A 239 (flf (cpf (N 239) (sB k) (sB (M 0 7 - 1)) 56) (sB (M 0 7 - 1)) x 0)) := fun n => by
      induction n with
      | zero =>
        intro x hx x0
        refine b_348_136 (Tr_mono _) hV hW _ _ _ _ _ ⟨by decide, ?_⟩
        rw [wr_same, f0 x x0]
        refine Ex_le (d := 1) (by decide) (q_323 (by (clear h hk hV hW hi hB b1 b2 b3 hq e239 h1 q6 n0 e hA hB1 hB2 g0 f0 hx x0; omega))) _ _ (ri_i ?_)
        rw [if_neg (by (clear h hk hV hW hi hB b1 b2 b3 hq e239 h1 q6 n0 e hA hB1 g0 f0 x0; lia)), wr_same, f0 x x0, w32_id (x := M 0 7 - 1) (by omega) (by omega), up_wr]
        have ex : x = sB (M 0 7) := by (clear h hk hV hW hi hB b1 b2 b3 hq e239 h1 q6 n0 e hA hB1 g0 f0 x0; lia)
        unfold stpQ at hA
        rw [e, n0] at hA
        rw [ex]; exact ⟨by decide, by decide, hA⟩
      | succ n ih =>
        intro x hx x0
        refine b_348_136 (Tr_mono _) hV hW _ _ _ _ _ ⟨by decide, ?_⟩
        rw [wr_same, f0 x x0]
        refine Ex_le (d := 1) (by decide) (q_323 (by (clear h hk hV hW hi hB b1 b2 b3 hq e239 h1 q6 n0 e hA hB1 hB2 g0 f0 ih hx x0; omega))) _ _ (ri_i ?_)
        rw [if_pos (by (clear h hk hV hW hi hB b1 b2 b3 hq e239 h1 q6 n0 e hA g0 f0 ih; lia)), w32_id (x := x + 1) (by (clear h hV hW hi hB b1 b2 b3 hq e239 h1 q6 n0 e hA g0 f0 ih; lia)) (by (clear h hV hW hi hB b1 b2 b3 hq e239 h1 q6 n0 e hA g0 f0 ih; lia)), flf_s x0]
        exact ⟨by omega, ih (x + 1) (by (clear h hk hV hW hi hB b1 b2 b3 hq e239 h1 q6 n0 e hA hB1 g0 f0 ih x0; lia)) (by (clear h hk hV hW hi hB b1 b2 b3 hq e239 h1 q6 n0 e hA g0 f0 ih; lia))⟩
    have l1 : ∀ (n : Nat) (x : Int), x + n = sB (M 0 7 - 1) → sB k ≤ x → V 84 [rr 6, ii k, ii (sB k), ii (N 239 (sB k)), ii x] [] (wr_ A 239 (cpf (N 239) (sB k) x 56)) := fun n => by
      induction n with
      | zero =>
        intro x hx x0
        refine b_348_84 (Tr_mono _) hV hW _ _ _ _ _ ⟨by decide, ?_⟩
        rw [wr_same, g0, w32_id (x := M 0 7 - 1) (by omega) (by omega)]
        refine Ex_le (d := 1) (by decide) (q_323 (by omega)) _ _ (ri_i ?_)
        rw [if_neg (by (clear h hk hV hW hi hB b1 b2 b3 hq e239 h1 q6 n0 e hA hB2 g0 f0 l2 x0; lia)), wr_same, g0, w32_id (x := M 0 7 - 1) (by omega) (by omega)]
        refine ⟨by decide, Ex_le (d := 1) (by decide) (q_323 (by omega)) _ _ (ri_i ?_)⟩
        have ex : x = sB (M 0 7 - 1) := by (clear h hk hV hW hi hB b1 b2 b3 hq e239 h1 q6 n0 e hA hB2 g0 f0 l2 x0; lia)
        have := l2 56 (sB (M 0 7 - 1)) (by omega) (by (clear h hk hV hW n12 hi hB b1 b2 b3 e7 hq e239 h1 q6 n0 e hA hB1 hB2 g0 f0 l2 hx x0 ex; lia))
        rw [flf_0] at this
        rw [ex]; exact this
      | succ n ih =>
        intro x hx x0
        refine b_348_84 (Tr_mono _) hV hW _ _ _ _ _ ⟨by decide, ?_⟩
        rw [wr_same, g0, w32_id (x := M 0 7 - 1) (by (clear h hk hV hW hi hB b1 b2 b3 hq e239 h1 q6 n0 e hA hB1 hB2 g0 f0 l2 ih hx x0; lia)) (by omega)]
        refine Ex_le (d := 1) (by decide) (q_323 (by (clear h hV hW hi b1 b2 b3 hq e239 h1 q6 n0 e hA hB2 g0 f0 l2 ih; lia))) _ _ (ri_i ?_)
        rw [if_pos (by (clear h hk hV hW hi hB b1 b2 b3 hq e239 h1 q6 n0 e hA hB2 g0 f0 l2 ih x0; lia)), w32_id (x := x + 56) (by (clear h hV hW hi b1 b2 b3 hq e239 h1 q6 n0 e hA hB2 g0 f0 l2 ih; omega)) (by omega), w32_id (x := x + 1) (by omega) (by (clear h hV hW hi hB b1 b2 b3 hq e239 h1 q6 n0 e hA hB2 g0 f0 l2 ih x0; omega)), wr_same, cpf_s x0 (by decide)]
        exact ⟨by (clear h hV hW hi b1 b2 b3 hq e239 h1 q6 n0 e hA hB2 g0 f0 l2 ih; lia), by omega, ih (x + 1) (by omega) (by omega)⟩
    have := l1 (sB (M 0 7 - 1) - sB k).toNat (sB k) (by (clear h hV hW hi b1 b2 b3 hq e239 h1 q6 n0 e hA hB2 g0 f0 l2 l1; lia)) (by (clear h hk hV hW n12 hi hB b1 b2 b3 e7 hq e239 h1 q6 n0 e hA hB1 hB2 g0 f0 l2 l1; lia))
    rw [cpf_0, ← e, wr_id] at this
    rw [e] at this; exact this
  have lq : ∀ (n : Nat) (i : Int) (A B : mm_), RU z A B → B 239 = N 239 → 0 ≤ i → i + n = M 14 k → Qr [] (stpQ (lsQ k (N 239 (sB k)) n i B) k) → V 24 [rr 6, ii k, ii (sB k), ii (N 239 (sB k)), ii i] [] B := fun n => by
    induction n with
    | zero =>
      intro i A B hA b239 i0 hi' hA2
      refine b_348_24 (Tr_mono _) hV hW _ _ _ _ _ ?_
      rw [w32_id (x := sB k + 25) (by omega) (by omega), b239, q6.2.2, if_neg (by (clear h hk hV hW n12 hi hB b1 b2 b3 e7 hq e239 h1 n0 mv hA b239 i0 hA2; lia))]
      exact ⟨by omega, mv B b239 hA2⟩
    | succ n ih =>
      intro i A B hA b239 i0 hi' hA2
      refine b_348_24 (Tr_mono _) hV hW _ _ _ _ _ ?_
      rw [w32_id (x := sB k + 25) (by omega) (by omega), w32_id (x := sB k + 25 + 1) (by (clear h hV hW n12 hi b1 b2 b3 e7 hq e239 h1 q6 n0 mv ih hA b239 i0 hi' hA2; lia)) (by omega), w32_id (x := sB k + 25 + 2) (by (clear h hV hW n12 hi b1 b2 b3 e7 hq e239 h1 q6 n0 mv ih hA b239 i0 hi' hA2; omega)) (by omega), w32_id (x := 5 * i) (by (clear h hk hV hW n12 hi hB b1 b2 b3 e7 hq e239 h1 q6 n0 mv ih hA b239 hi' hA2; lia)) (by (clear h hk hV hW n12 hi hB b1 b2 b3 e7 hq e239 h1 n0 mv ih hA b239 i0 hA2; omega)), w32_id (x := sB k + 25 + 1 + 5 * i) (by (clear h hV hW n12 hi b1 b2 b3 e7 hq e239 h1 q6 n0 mv ih hA b239 hi' hA2; lia)) (by (clear h hV hW hi b1 b2 b3 hq e239 h1 n0 mv ih hA b239 i0 hA2; lia)), w32_id (x := sB k + 25 + 2 + 5 * i) (by omega) (by omega), w32_id (x := i + 1) (by omega) (by (clear h hk hV hW n12 hi hB b1 b2 b3 e7 hq e239 h1 n0 mv ih hA b239 i0 hA2; omega)), b239, q6.2.2, if_pos (by (clear h hk hV hW n12 hi hB b1 b2 b3 e7 hq e239 h1 n0 mv ih hA b239 i0 hA2; omega))]
      refine ⟨by (clear h hV hW hi b1 b2 b3 hq e239 h1 q6 n0 mv ih hA b239 i0 hi' hA2; lia), by (clear h hV hW hi b1 b2 b3 hq e239 h1 n0 mv ih hA b239 hA2; lia), by (clear h hV hW hi b1 b2 b3 hq e239 h1 n0 mv ih hA b239 hA2; lia), q_333 hA _ _ (rv_i ?_)⟩
      refine ih (i + 1) _ _ (RU_lo hA) (by rw [LoQ_lo.1 239 (by decide) (by decide)]; exact b239) (by omega) (by (clear h hk hV hW n12 hi hB b1 b2 b3 e7 hq e239 h1 n0 mv ih hA b239 i0 hA2; lia)) ?_
      unfold lsQ at hA2
      rw [b239, show sB k + 26 + 5 * i = sB k + 25 + 1 + 5 * i by (clear h hk hV hW n12 hi hB b1 b2 b3 e7 hq e239 h1 q6 n0 mv ih hA b239 i0 hi' hA2; lia), show sB k + 27 + 5 * i = sB k + 25 + 2 + 5 * i by omega] at hA2
      exact hA2
  rw [q6.2.2] at hq
  exact lq (M 14 k).toNat 0 M1 N1 h1 e239 (by decide) (by (clear h hk hV hW n12 hi hB b1 b2 b3 e7 hq e239 h1 n0 mv lq; lia)) hq)
theorem XRF_stp [Inhabited fz_] : XRF M (stopX M k) := by
  have a := (ls_f (k := k) (p := M 10 k) (M 14 k).toNat 0 (evX M 6 (M 10 k) (-1) 0) M).1
  have b : XRF (evX M 6 (M 10 k) (-1) 0) (lsX k (M 10 k) (M 14 k).toNat 0 (evX M 6 (M 10 k) (-1) 0)) := ⟨fun r hr => a.1 r (fun e => hr (by rw [e]; decide)) (fun e => hr (by rw [e]; decide)), fun i hi => a.2 i (fun e => hi (by simp only [xfL, List.mem_cons, List.not_mem_nil, or_false] at e ⊢; (clear a hi; lia)))⟩
  unfold stopX
  refine XRF_tr (XRF_tr XRF_ev b) ?_
  generalize lsX k (M 10 k) (M 14 k).toNat 0 (evX M 6 (M 10 k) (-1) 0) = A
  unfold stpX
  refine XRF_tr (M1 := up_ A 0 7 (A 0 7 - 1)) (XRF_up (by decide) (fun _ => by decide)) ⟨fun r hr => ?_, fun i hi => ?_⟩
  · have e : ∀ x : Nat, x ∈ xuL → r ≠ x := fun x hx e => hr (by rw [e]; exact hx)
    unfold sfX
    rw [if_neg (fun c => hr (by simp only [xuL, List.mem_cons, List.not_mem_nil, or_false] at c ⊢; (clear a b hr e; lia))), if_neg (e 13 (by decide)), if_neg (e 15 (by decide)), if_neg (e 16 (by decide)), if_neg (e 17 (by decide))]
  · unfold sfX; rw [if_neg (by decide), if_neg (by decide), if_neg (by decide), if_neg (by decide), if_neg (by decide)]
theorem QRF_stp [Inhabited fz_] : QRF N (stopQ N k) := by
  have a := (ls_f (k := k) (p := N 239 (sB k)) (N 239 (sB k + 25)).toNat 0 N (evQ N 6 (N 239 (sB k)) (-1) 0)).2
  have b : QRF (evQ N 6 (N 239 (sB k)) (-1) 0) (lsQ k (N 239 (sB k)) (N 239 (sB k + 25)).toNat 0 (evQ N 6 (N 239 (sB k)) (-1) 0)) := ⟨fun r hr => a.1 r (fun e => hr (by rw [e]; decide)) (fun e => hr (by rw [e]; decide)), fun i hi => a.2 i (fun e => hi (by simp only [qfL, List.mem_cons, List.not_mem_nil, or_false] at e ⊢; (clear a hi; lia)))⟩
  unfold stopQ
  refine QRF_tr (QRF_tr QRF_ev b) ?_
  unfold stpQ
  exact QRF_wr (by decide) (by decide)
end SWa
end T341_st
section T342_ev
/-! the run: what e's give (X 15 | Q 339) -/
def exX (M : mm_) (A : Int → Int) (n : Int) : mm_ := up_ (wr_ M 26 A) 0 45 n
def exQ (N : mm_) (B : Int → Int) (m e : Int) : mm_ := up_ (up_ (wr_ N 243 B) 6 148 m) 6 149 e
def BV (x : Int) : Prop := x = 0 ∨ x = 1
def R32 (x : Int) : Prop := -2147483648 ≤ x ∧ x < 2147483648
theorem R32_b [Inhabited fz_] {x : Int} (h : BV x) : R32 x := by unfold R32; rcases h with h | h <;> omega
theorem R32_w [Inhabited fz_] {x : Int} : R32 (w32 x) := by unfold R32 w32; omega
/-- a call throws X's 'wrong' -/
def Et_ (d n : Nat) (args : List pv_) (M M' : mm_) : Prop := ∀ (Qr : qr_) (Qt : qt_), Qt 7 M' → Tr_ wd0 pg0 d n args M Qr Qt
/-- within a method: from a place on it throws -/
def XT (d : Nat) (m : md_) (pc : Nat) (ls : lo_) (M M' : mm_) : Prop := ∀ (V : vv_) (Qr : qr_) (Qt : qt_), Cl_ wd0 (Tr_ wd0 pg0 d) V Qr Qt m → Wk_ V → Qt 7 M' → V pc ls [] M
/-- what a form of two makes of them -/
def bin (w a b : Int) : Int := if w = 20 then w32 (a + b) else if w = 21 then w32 (a - b) else if w = 22 then w32 (a * b) else if w = 23 then w32 (Int.tdiv a b) else if w = 24 then Int.tmod a b
  else if w = 25 then (if a = b then 1 else 0) else if w = 26 then (if a = b then 0 else 1) else if w = 27 then (if a < b then 1 else 0) else if w = 28 then (if a ≤ b then 1 else 0) else if w = 29 then (if a ≤ b then 0 else 1) else if w = 30 then (if a < b then 0 else 1)
  else if w = 31 then (if a = 0 then 0 else if b = 0 then 0 else 1) else (if a = 0 then (if b = 0 then 0 else 1) else 1)
section EVa
variable {z : Int} {M N : mm_} {A B : Int → Int} {n m e k t v w a b o i j : Int}
theorem exX_r [Inhabited fz_] {r : Nat} (h0 : r ≠ 0) (h : r ≠ 26) : exX M A n r = M r := by unfold exX; rw [up_ne h0, wr_ne h]
theorem exX_26 [Inhabited fz_] : exX M A n 26 = A := by unfold exX; rw [up_ne (by decide), wr_same]
theorem exX_0 [Inhabited fz_] (h : i ≠ 45) : exX M A n 0 i = M 0 i := by unfold exX; rw [upo h, wr_ne (by decide)]
theorem exX_45 [Inhabited fz_] : exX M A n 0 45 = n := by unfold exX; rw [up_at]
theorem exQ_r [Inhabited fz_] {r : Nat} (h0 : r ≠ 6) (h : r ≠ 243) : exQ N B m e r = N r := by unfold exQ; rw [up_ne h0, up_ne h0, wr_ne h]
theorem exQ_243 [Inhabited fz_] : exQ N B m e 243 = B := by unfold exQ; rw [up_ne (by decide), up_ne (by decide), wr_same]
theorem exQ_6 [Inhabited fz_] (h : i ≠ 148) (h' : i ≠ 149) : exQ N B m e 6 i = N 6 i := by unfold exQ; rw [upo h', upo h, wr_ne (by decide)]
theorem exQ_148 [Inhabited fz_] : exQ N B m e 6 148 = m := by unfold exQ; rw [upo (by decide), up_at]
theorem exQ_149 [Inhabited fz_] : exQ N B m e 6 149 = e := by unfold exQ; rw [up_at]
theorem exX_p [Inhabited fz_] : up_ (up_ (exX M A n) 26 i v) 0 45 j = exX M (su_ A i v) j := by
  funext r x; unfold exX; simp only [ua_, wr_at, su_]
  by_cases c : r = 0
  · subst c; simp only [if_true, show ¬ ((0 : Nat) = 26) by decide, if_false]; split <;> rfl
  · simp only [c, if_false]
    by_cases c2 : r = 26
    · subst c2; simp only [if_true, show ¬ ((26 : Nat) = 0) by decide, if_false]; rfl
    · simp only [c2, if_false]
theorem exX_o [Inhabited fz_] : up_ (exX M A n) 0 45 j = exX M A j := by
  funext r x; unfold exX; simp only [ua_]
  by_cases c : r = 0
  · subst c; simp only [if_true]; split <;> rfl
  · simp only [c, if_false]
theorem exQ_p [Inhabited fz_] : up_ (up_ (exQ N B m e) 243 i v) 6 148 j = exQ N (su_ B i v) j e := by
  funext r x; unfold exQ; simp only [ua_, wr_at, su_]
  by_cases c : r = 6
  · subst c; simp only [if_true, show ¬ ((6 : Nat) = 243) by decide, if_false]; split <;> split <;> first | rfl | omega
  · simp only [c, if_false]
    by_cases c2 : r = 243
    · subst c2; simp only [if_true, show ¬ ((243 : Nat) = 6) by decide, if_false]; rfl
    · simp only [c2, if_false]
theorem exQ_u [Inhabited fz_] : up_ (exQ N B m e) 243 i v = exQ N (su_ B i v) m e := by
  funext r x; unfold exQ; simp only [ua_, wr_at, su_]
  by_cases c : r = 6
  · subst c; simp only [if_true, show ¬ ((6 : Nat) = 243) by decide, if_false]
  · simp only [c, if_false]
    by_cases c2 : r = 243
    · subst c2; simp only [if_true, show ¬ ((243 : Nat) = 6) by decide, if_false]; rfl
    · simp only [c2, if_false]
theorem exQ_o [Inhabited fz_] : up_ (exQ N B m e) 6 148 j = exQ N B j e := by
  funext r x; unfold exQ; simp only [ua_]
  by_cases c : r = 6
  · subst c; simp only [if_true]; split <;> split <;> first | rfl | omega
  · simp only [c, if_false]
theorem exQ_e [Inhabited fz_] : up_ (exQ N B m e) 6 149 j = exQ N B m j := by
  funext r x; unfold exQ; simp only [ua_]
  by_cases c : r = 6
  · subst c; simp only [if_true]; split <;> rfl
  · simp only [c, if_false]
theorem RU_ex [Inhabited fz_] (h : RU z M N) : RU z (exX M A n) (exQ N B m e) := by
  obtain ⟨h1, h2, h3, h4, h5⟩ := h
  have x : ∀ r : Nat, r ≠ 0 → r ≠ 26 → exX M A n r = M r := fun r => exX_r
  have q : ∀ r : Nat, r ≠ 6 → r ≠ 243 → exQ N B m e r = N r := fun r => exQ_r
  refine ⟨RI_c h1 ⟨exX_0 (by decide), exX_0 (by decide)⟩ (fun r hr => x r (fun c => by rw [c] at hr; revert hr; decide) (fun c => by rw [c] at hr; revert hr; decide)) (q 239 (by decide) (by decide)) (exQ_6 (by decide) (by decide)) (fun r hr => q r (fun c => by rw [c] at hr; revert hr; decide) (fun c => by rw [c] at hr; revert hr; decide)), RRt_c h2 (x 21 (by decide) (by decide)) (x 22 (by decide) (by decide)) (q 239 (by decide) (by decide)) (exQ_6 (by decide) (by decide)), RSC_c h3 (fun i hi => exX_0 (fun c => by rw [c] at hi; revert hi; decide)) (fun i hi => exQ_6 (fun c => by rw [c] at hi; revert hi; decide) (fun c => by rw [c] at hi; revert hi; decide)), ROU_c h4 (fun i hi => exX_0 (fun c => by rw [c] at hi; revert hi; decide)) (x 24 (by decide) (by decide)) (fun i hi => exQ_6 (fun c => by rw [c] at hi; revert hi; decide) (fun c => by rw [c] at hi; revert hi; decide)) (q 241 (by decide) (by decide)), REV_c h5 (fun i hi => exX_0 (fun c => by rw [c] at hi; revert hi; decide)) (x 23 (by decide) (by decide)) (fun i hi => exQ_6 (fun c => by rw [c] at hi; revert hi; decide) (fun c => by rw [c] at hi; revert hi; decide)) (q 240 (by decide) (by decide))⟩
theorem x_16 [Inhabited fz_] (hn : 0 ≤ n ∧ n < 64) : Ex_ 1 16 [.inr (.inr 0), .inl v] (exX M A n) [] (exX M (su_ A n v) (n + 1)) := fun Qr Qt hq => t_16 fun V hV hW => b_16_0 (Tr_mono _) hV hW _ _ (by
  rw [exX_45, w32_id (by omega) (by omega), exX_p]; exact ⟨hn, hq⟩)
theorem x_18 [Inhabited fz_] (hn : 1 ≤ n ∧ n ≤ 64) : Ex_ 1 18 [.inr (.inr 0)] (exX M A n) [.inl (A (n - 1))] (exX M A (n - 1)) := fun Qr Qt hq => t_18 fun V hV hW => b_18_0 (Tr_mono _) hV hW _ (by
  rw [exX_45, w32_id (by omega) (by omega), exX_o, exX_26]; exact ⟨by omega, hq⟩)
theorem x_19 [Inhabited fz_] : Ex_ 1 19 [.inr (.inr 0), .inl v] M [.inr (.inr 7)] (up_ M 0 49 v) := fun Qr Qt hq => t_19 fun V hV hW => b_19_0 (Tr_mono _) hV hW _ _ hq
theorem q_341 [Inhabited fz_] (hn : 0 ≤ m ∧ m < 1202) : Ex_ 1 341 [.inr (.inr 6), .inl v] (exQ N B m e) [] (exQ N (su_ B m v) (m + 1) e) := fun Qr Qt hq => t_341 fun V hV hW => b_341_0 (Tr_mono _) hV hW _ _ (by
  rw [exQ_148, w32_id (by omega) (by omega), exQ_p]; exact ⟨hn, hq⟩)
/-- whether a timer is active -/
theorem j_17 [Inhabited fz_] (h : RU z M N) (hk : 0 ≤ k ∧ k < M 0 7) (e46 : M 0 46 = k) (ht : 0 ≤ t ∧ t < 3) : ∃ v, BV v ∧ Ex_ 2 17 [.inr (.inr 0), .inl t] M [.inl v] M ∧ Ex_ 2 342 [.inr (.inr 6), .inl k, .inl t] N [.inl v] N := by
  have n12 := h.1.1
  have hB : sB k = 2 + 56 * k := rfl
  have j := h.1.2.2.1 k hk.1 hk.2
  have tm := (j.2.2.2.1 t ht.1 ht.2).1
  have jq := j.2.2.2.2
  have lp : ∀ (n : Nat) (i x : Int), BV x → 0 ≤ i → M 14 k ≤ i + n → ∃ v, BV v ∧ (∀ (V : vv_) (Qr : qr_) (Qt : qt_), Cl_ wd0 (Tr_ wd0 pg0 1) V Qr Qt m_17 → Wk_ V → Qr [.inl v] M → V 16 [rr 0, ii t, ii x, ii i] [] M) ∧ (∀ (V : vv_) (Qr : qr_) (Qt : qt_), Cl_ wd0 (Tr_ wd0 pg0 1) V Qr Qt m_342 → Wk_ V → Qr [.inl v] N → V 29 [rr 6, ii k, ii t, ii (sB k), ii x, ii i] [] N) := by
    intro n
    induction n with
    | zero =>
      intro i x hx i0 hi
      refine ⟨x, hx, fun V Qr Qt hV hW g => b_17_16 (Tr_mono _) hV hW _ _ _ _ ⟨by omega, ?_⟩, fun V Qr Qt hV hW g => b_342_29 (Tr_mono _) hV hW _ _ _ _ _ _ ?_⟩
      · rw [e46, if_neg (by omega)]; exact ⟨hx, g⟩
      · rw [w32_id (x := sB k + 25) (by omega) (by omega), jq.1.2.2, if_neg (by omega)]; exact ⟨by (clear h ht j tm jq hx i0 hi hV hW g; lia), hx, g⟩
    | succ n ih =>
      intro i x hx i0 hi
      by_cases c : i < M 14 k
      · rcases hx with rfl | rfl
        · have q := jq.2.1 (5 * i) (by omega) (by omega)
          obtain ⟨v, b, x1, q1⟩ := ih (i + 1) (if M 15 (30 * k + 5 * i) = 100 + t then 1 else 0) (by split; exact .inr rfl; exact .inl rfl) (by omega) (by omega)
          refine ⟨v, b, fun V Qr Qt hV hW g => b_17_16 (Tr_mono _) hV hW _ _ _ _ ⟨by omega, ?_⟩, fun V Qr Qt hV hW g => b_342_29 (Tr_mono _) hV hW _ _ _ _ _ _ ?_⟩
          · rw [e46, if_pos c, if_pos rfl]
            refine x_9 (by omega) (by omega) _ _ (ri_i ⟨by (clear h ht hB j tm ih hi q b x1 q1 hV hW g; omega), ?_⟩)
            have g' := x1 V Qr Qt hV hW g
            rw [w32_id (x := i + 1) (by omega) (by (clear h hk e46 ht n12 hB j tm ih i0 hi q b x1 q1 hV hW g g'; omega)), w32_id (x := 100 + t) (by omega) (by omega)]
            by_cases c2 : M 15 (30 * k + 5 * i) = 100 + t
            · rw [if_pos c2] at g' ⊢; exact g'
            · rw [if_neg c2] at g' ⊢; exact g'
          · rw [w32_id (x := sB k + 25) (by omega) (by omega), jq.1.2.2, if_pos c, if_pos rfl]
            have g' := q1 V Qr Qt hV hW g
            rw [w32_id (x := 5 * i) (by omega) (by (clear h hk e46 ht n12 hB j tm ih i0 hi q b x1 q1 hV hW g g'; omega)), w32_id (x := sB k + 25 + 1) (by (clear h ht n12 j tm jq ih i0 hi c q b x1 q1 hV hW g g'; lia)) (by (clear h ht j tm jq ih i0 hi c q b x1 q1 hV hW g g'; lia)), w32_id (x := sB k + 25 + 1 + 5 * i) (by (clear h ht n12 j tm jq ih hi c q b x1 q1 hV hW g g'; lia)) (by omega), w32_id (x := i + 1) (by omega) (by omega), w32_id (x := 100 + t) (by omega) (by omega), show sB k + 25 + 1 + 5 * i = sB k + 26 + 5 * i by (clear h hk e46 ht n12 hB j tm jq ih i0 hi c q b x1 q1 hV hW g g'; lia), ← q]
            refine ⟨by omega, by (clear h ht j tm ih hi q b x1 q1 hV hW g g'; omega), ?_⟩
            by_cases c2 : M 15 (30 * k + 5 * i) = 100 + t
            · rw [if_pos c2] at g' ⊢; exact g'
            · rw [if_neg c2] at g' ⊢; exact g'
        · obtain ⟨v, b, x1, q1⟩ := ih (i + 1) 1 (.inr rfl) (by omega) (by omega)
          refine ⟨1, .inr rfl, fun V Qr Qt hV hW g => b_17_16 (Tr_mono _) hV hW _ _ _ _ ⟨by omega, ?_⟩, ?_⟩
          · rw [e46, if_pos c, if_neg (by decide)]; exact ⟨.inr rfl, g⟩
          · have lq : ∀ (n : Nat) (i : Int), 0 ≤ i → i ≤ M 14 k → M 14 k ≤ i + n → (∀ (V : vv_) (Qr : qr_) (Qt : qt_), Cl_ wd0 (Tr_ wd0 pg0 1) V Qr Qt m_342 → Wk_ V → Qr [.inl 1] N → V 29 [rr 6, ii k, ii t, ii (sB k), ii 1, ii i] [] N) := by
              intro n
              induction n with
              | zero =>
                intro i i0 i1 hi V Qr Qt hV hW g
                refine b_342_29 (Tr_mono _) hV hW _ _ _ _ _ _ ?_
                rw [w32_id (x := sB k + 25) (by (clear h ht n12 j tm jq ih c b x1 q1 i0 i1 hi hV hW g; omega)) (by omega), jq.1.2.2, if_neg (by (clear h hk e46 ht n12 hB j tm ih c b x1 q1 i0 hV hW g; omega))]; exact ⟨by omega, .inr rfl, g⟩
              | succ n ih2 =>
                intro i i0 i1 hi V Qr Qt hV hW g
                by_cases c : i < M 14 k
                · have g' := ih2 (i + 1) (by omega) (by omega) (by omega) V Qr Qt hV hW g
                  refine b_342_29 (Tr_mono _) hV hW _ _ _ _ _ _ ?_
                  rw [w32_id (x := sB k + 25) (by omega) (by (clear h ht j tm jq ih b x1 q1 ih2 i0 i1 hi hV hW g c g'; omega)), jq.1.2.2, if_pos c, if_neg (by decide), w32_id (x := i + 1) (by omega) (by omega)]
                  exact ⟨by (clear h ht j tm jq ih b x1 q1 ih2 i0 i1 hi hV hW g c g'; lia), g'⟩
                · refine b_342_29 (Tr_mono _) hV hW _ _ _ _ _ _ ?_
                  rw [w32_id (x := sB k + 25) (by omega) (by omega), jq.1.2.2, if_neg (by omega)]; exact ⟨by omega, .inr rfl, g⟩
            exact lq (n + 1) i i0 (by omega) hi
      · refine ⟨x, hx, fun V Qr Qt hV hW g => b_17_16 (Tr_mono _) hV hW _ _ _ _ ⟨by omega, ?_⟩, fun V Qr Qt hV hW g => b_342_29 (Tr_mono _) hV hW _ _ _ _ _ _ ?_⟩
        · rw [e46, if_neg (by omega)]; exact ⟨hx, g⟩
        · rw [w32_id (x := sB k + 25) (by omega) (by omega), jq.1.2.2, if_neg (by omega)]; exact ⟨by omega, hx, g⟩
  have bt : BV (M 16 (3 * k + t)) := by rcases tm with ⟨e, _⟩ | ⟨e, _⟩ <;> rw [e]; exact .inr rfl; exact .inl rfl
  obtain ⟨v, b, x1, q1⟩ := lp 6 0 (M 16 (3 * k + t)) bt (by decide) (by (clear h hk e46 ht n12 hB j tm lp bt; omega))
  refine ⟨v, b, fun Qr Qt hq => t_17 fun V hV hW => b_17_0 (Tr_mono _) hV hW _ _ ?_, fun Qr Qt hq => t_342 fun V hV hW => b_342_0 (Tr_mono _) hV hW _ _ _ (q_323 (by omega) _ _ (ri_i ?_))⟩
  · rw [e46, w32_id (x := 3 * k) (by omega) (by omega), w32_id (x := 3 * k + t) (by omega) (by (clear h hB j tm jq lp bt b x1 q1 hq hV hW; lia))]
    exact ⟨by (clear h hB j tm jq lp bt b x1 q1 hq hV hW; lia), fun _ => x1 V Qr Qt hV hW hq⟩
  · rw [w32_id (x := sB k + 22) (by omega) (by omega), w32_id (x := sB k + 22 + t) (by omega) (by omega)]
    refine ⟨by omega, ?_⟩
    have g' := q1 V Qr Qt hV hW hq
    rcases tm with ⟨e, e1, e2⟩ | ⟨e, e2⟩
    · rw [if_neg (by (clear h hk e46 ht n12 hB j jq lp bt b x1 q1 hq hV hW g' e; omega))]; rw [e] at g'; exact g'
    · rw [if_pos (by (clear h hk e46 ht n12 hB j jq lp bt b x1 q1 hq hV hW g' e; omega))]; rw [e] at g'; exact g'
end EVa
end T342_ev
section T343_bi
/-! the run: forms of two -/
section BIa
variable {z : Int} {M N : mm_} {A B : Int → Int} {n m e k t v w a b o i j : Int}
/-- X's step of a form of two -/
def oX (w : Int) : Int := if w < 25 then w - 10 else if w < 31 then w - 6 else w - 14
theorem anb [Inhabited fz_] (ha : BV a) (hb : BV b) : an_ a b = (if a = 0 then 0 else if b = 0 then 0 else 1) ∧ or_ a b = (if a = 0 then (if b = 0 then 0 else 1) else 1) := by
  rcases ha with rfl | rfl <;> rcases hb with rfl | rfl
  · exact ⟨an_nat (a := 0) (b := 0) (by decide) (by decide), or_nat (a := 0) (b := 0) (by decide) (by decide)⟩
  · exact ⟨an_nat (a := 0) (b := 1) (by decide) (by decide), or_nat (a := 0) (b := 1) (by decide) (by decide)⟩
  · exact ⟨an_nat (a := 1) (b := 0) (by decide) (by decide), or_nat (a := 1) (b := 0) (by decide) (by decide)⟩
  · exact ⟨an_nat (a := 1) (b := 1) (by decide) (by decide), or_nat (a := 1) (b := 1) (by decide) (by decide)⟩
theorem w13 [Inhabited fz_] (h : 20 ≤ w ∧ w ≤ 32) : w = 20 ∨ w = 21 ∨ w = 22 ∨ w = 23 ∨ w = 24 ∨ w = 25 ∨ w = 26 ∨ w = 27 ∨ w = 28 ∨ w = 29 ∨ w = 30 ∨ w = 31 ∨ w = 32 := by lia
theorem x_20 [Inhabited fz_] (h : 20 ≤ w ∧ w ≤ 32) (hz : w = 23 ∨ w = 24 → b ≠ 0) (hb : 31 ≤ w → BV a ∧ BV b) : Ex_ 2 20 [.inr (.inr 0), .inl (oX w), .inl a, .inl b] M [.inl (bin w a b)] M := fun Qr Qt hq => t_20 fun V hV hW => b_20_0 (Tr_mono _) hV hW _ _ _ _ (by
  unfold bin at hq
  rcases w13 h with e | e | e | e | e | e | e | e | e | e | e | e | e <;> subst e <;> unfold oX <;> simp only [Int.reduceLT, Int.reduceSub, Int.reduceEq, if_true, if_false] at hq ⊢
  · exact hq
  · exact hq
  · exact hq
  · rw [if_neg (hz (.inl rfl))]; exact ⟨hz (.inl rfl), hq⟩
  · rw [if_neg (hz (.inr rfl))]; exact ⟨hz (.inr rfl), hq⟩
  · split <;> simp only [*, if_true, if_false] at hq <;> exact hq
  · split <;> simp only [*, if_true, if_false] at hq <;> exact hq
  · split <;> simp only [*, if_true, if_false] at hq <;> exact hq
  · split <;> simp only [*, if_true, if_false] at hq <;> exact hq
  · split <;> simp only [*, if_true, if_false] at hq <;> exact hq
  · split <;> simp only [*, if_true, if_false] at hq <;> exact hq
  · obtain ⟨p, q⟩ := hb (by decide); rw [(anb p q).1]; exact hq
  · obtain ⟨p, q⟩ := hb (by decide); rw [(anb p q).2]; exact hq)
theorem x_20e [Inhabited fz_] (h : w = 23 ∨ w = 24) (hb : b = 0) : Et_ 2 20 [.inr (.inr 0), .inl (oX w), .inl a, .inl b] M (up_ M 0 49 2) := fun Qr Qt hq => t_20 fun V hV hW => b_20_0 (Tr_mono _) hV hW _ _ _ _ (by
  rcases h with e | e <;> subst e <;> unfold oX <;> simp only [Int.reduceLT, Int.reduceSub, Int.reduceEq, if_true, if_false]
  · rw [if_pos hb]; exact x_19 _ _ (rf_i (by rw [if_neg (by decide)]; exact hq))
  · rw [if_pos hb]; exact x_19 _ _ (rf_i (by rw [if_neg (by decide)]; exact hq)))
theorem q_344 [Inhabited fz_] (h : 25 ≤ w ∧ w ≤ 32) : Ex_ 1 344 [.inl w, .inl a, .inl b] M [.inl (bin w a b)] M ∧ BV (bin w a b) := by
  constructor
  · exact fun Qr Qt hq => t_344 fun V hV hW => b_344_0 (Tr_mono _) hV hW _ _ _ _ (by
      unfold bin at hq
      rcases w13 ⟨by (clear hq hV hW; omega), h.2⟩ with e | e | e | e | e | e | e | e | e | e | e | e | e <;> subst e <;> first | omega | skip
      all_goals simp only [Int.reduceEq, if_true, if_false] at hq ⊢
      all_goals (repeat' split)
      all_goals simp only [*, if_true, if_false] at hq
      all_goals first | exact ⟨.inl rfl, hq⟩ | exact ⟨.inr rfl, hq⟩)
  · unfold bin BV
    rcases w13 ⟨by omega, h.2⟩ with e | e | e | e | e | e | e | e | e | e | e | e | e <;> subst e <;> first | omega | skip
    all_goals simp only [Int.reduceEq, if_true, if_false]
    all_goals (repeat' split)
    all_goals first | exact .inl rfl | exact .inr rfl
theorem bin_r [Inhabited fz_] (ha : R32 a) (h : 20 ≤ w ∧ w ≤ 32) : R32 (bin w a b) := by
  by_cases c : 25 ≤ w
  · exact R32_b (q_344 (M := fun _ _ => 0) ⟨c, h.2⟩).2
  · unfold bin
    have : w = 20 ∨ w = 21 ∨ w = 22 ∨ w = 23 ∨ w = 24 := by (clear ha; lia)
    rcases this with e | e | e | e | e <;> subst e <;> simp only [Int.reduceEq, if_true, if_false]
    · exact R32_w
    · exact R32_w
    · exact R32_w
    · exact R32_w
    · unfold R32 at ha ⊢
      have e := Int.natAbs_tmod a b
      have l := Nat.mod_le a.natAbs b.natAbs
      have n := Int.neg_tmod a b
      have p := Int.tmod_nonneg (a := -a) b
      omega
theorem q_343 [Inhabited fz_] (h : 20 ≤ w ∧ w ≤ 32) (hz : w = 23 ∨ w = 24 → b ≠ 0) (hm : 1 ≤ m ∧ m ≤ 1202) : Ex_ 2 343 [.inr (.inr 6), .inl w, .inl a, .inl b] (exQ N B m 0) [] (exQ N (su_ B (m - 1) (bin w a b)) m 0) := fun Qr Qt hq => t_343 fun V hV hW => by
  have k22 : V 22 [rr 6, ii w, ii a, ii b] [] (exQ N B m 0) := b_343_22 (Tr_mono _) hV hW _ _ _ _ (by
    rw [exQ_148, w32_id (x := m - 1) (by omega) (by omega)]
    by_cases c : w < 25
    · rw [if_pos c]
      unfold bin at hq
      rcases w13 h with e | e | e | e | e | e | e | e | e | e | e | e | e <;> subst e <;> first | omega | skip
      all_goals simp only [Int.reduceEq, if_true, if_false] at hq ⊢
      all_goals rw [exQ_u]
      all_goals first | exact ⟨by omega, hq⟩ | exact ⟨hz (by decide), by omega, hq⟩
    · rw [if_neg c]
      have q := q_344 (M := exQ N B m 0) (a := a) (b := b) (w := w) (by omega)
      refine q.1 _ _ (ri_i ?_)
      rcases q.2 with e | e
      · rw [if_pos e, exQ_u]; rw [e] at hq; exact ⟨by omega, hq⟩
      · rw [if_neg (by omega), exQ_u]; rw [e] at hq; exact ⟨by omega, hq⟩)
  refine b_343_0 (Tr_mono _) hV hW _ _ _ _ ?_
  by_cases c : w = 23
  · rw [if_pos c, if_neg (hz (.inl c))]; exact k22
  · rw [if_neg c]
    by_cases c : w = 24
    · rw [if_pos c, if_neg (hz (.inr c))]; exact k22
    · rw [if_neg c]; exact k22
theorem q_343e [Inhabited fz_] (h : w = 23 ∨ w = 24) (hb : b = 0) : Ex_ 2 343 [.inr (.inr 6), .inl w, .inl a, .inl b] (exQ N B m 0) [] (exQ N B m 2) := fun Qr Qt hq => t_343 fun V hV hW => b_343_0 (Tr_mono _) hV hW _ _ _ _ (by
  rw [exQ_e]
  rcases h with e | e <;> subst e
  · rw [if_pos rfl, if_pos hb]; exact hq
  · rw [if_neg (by decide), if_pos rfl, if_pos hb]; exact hq)
end BIa
end T343_bi
section T344_es
/-! the run: one form of an e (X 15 | Q 340) -/
/-- the cells of BOOL variables hold 0 or 1 -/
def TYI (N : mm_) (k T : Int) : Prop := ∀ u, 0 ≤ u → u < N 171 T → N 182 (8 * T + u) = 2 → ∀ i, 0 ≤ i → i < (if 1 < N 183 (8 * T + u) then N 183 (8 * T + u) else 1) → BV (N 239 (sB k + 6 + (N 184 (8 * T + u) + i)))
def RG9 (N : mm_) : Prop := ∀ j, R32 (N 239 j)
def EVC [Inhabited fz_] (z : Int) (M N : mm_) (k T : Int) : Prop := RU z M N ∧ (0 ≤ k ∧ k < M 0 7) ∧ M 0 46 = k ∧ M 11 k = T ∧ PLr M N ∧ TYI N k T ∧ RG9 N
def TB (B : Int → Int) : List Int → Prop
  | [] => True
  | t :: r => ((t = 2 → BV (B r.length)) ∧ R32 (B r.length)) ∧ TB B r
def KS (p : Int) (A B : Int → Int) (s : List Int) : Prop := (∀ j, 0 ≤ j → j < s.length → A (p + j) = B j) ∧ TB B s
def lnX (o : Int) : Int := if o = 9 then 3 else if o = 0 then 2 else if o = 7 then 2 else if o = 8 then 2 else 1
section ESa
variable {z : Int} {M N : mm_} {A B A' B' : Int → Int} {n m e k t v w a b o i j c T p q : Int} {s r s' : List Int} {x : Int × Int}
theorem TB_su [Inhabited fz_] : ∀ (r : List Int), (r.length : Int) ≤ j → TB B r → TB (su_ B j v) r
  | [], _, _ => trivial
  | t :: r, h, hb => ⟨by
      simp only [List.length_cons] at h
      have := hb.1
      unfold su_; rw [if_neg (by omega)]; exact this, TB_su r (by simp only [List.length_cons] at h; omega) hb.2⟩
theorem sua [Inhabited fz_] : su_ A j v j = v := by unfold su_; rw [if_pos rfl]
theorem su_ne [Inhabited fz_] (h : i ≠ j) : su_ A j v i = A i := by unfold su_; rw [if_neg h]
theorem KS_push [Inhabited fz_] (h : KS p A B s) (hv : (t = 2 → BV v) ∧ R32 v) : KS p (su_ A (p + s.length) v) (su_ B s.length v) (t :: s) := by
  refine ⟨fun j j0 j1 => ?_, by rw [sua]; exact hv, TB_su s (Int.le_refl _) h.2⟩
  simp only [List.length_cons] at j1
  by_cases c : j = (s.length : Int)
  · rw [c, sua, sua]
  · rw [su_ne (by omega), su_ne c]; exact h.1 j j0 (by omega)
theorem KS_pop [Inhabited fz_] (h : KS p A B (t :: s)) : KS p A B s := ⟨fun j j0 j1 => h.1 j j0 (by simp only [List.length_cons]; omega), h.2.2⟩
theorem KS_at [Inhabited fz_] (h : KS p A B (t :: s)) : A (p + s.length) = B s.length := h.1 _ (by omega) (by simp only [List.length_cons]; omega)
theorem x_365 [Inhabited fz_] {V : vv_} {Qr : qr_} {Qt : qt_} {x1 : Int} (hV : Cl_ wd0 (Tr_ wd0 pg0 2) V Qr Qt m_15) (hW : Wk_ V) (hc : 0 ≤ c ∧ c ≤ 11900) (h : V 10 [rr 0, ii x1, rr 109, ii (c + lnX o), none, none] [] M) : V 365 [rr 0, ii x1, rr 109, ii c, ii o, none] [] M := b_15_365 (Tr_mono _) hV hW _ _ _ _ (by
  unfold lnX at h
  rw [w32_id (x := c + 3) (by omega) (by omega), w32_id (x := c + 2) (by omega) (by omega), w32_id (x := c + 1) (by omega) (by omega)]
  repeat' split
  all_goals simp only [*, if_true, if_false, Int.reduceEq] at h
  all_goals exact h)
/-- a step that puts a value on the stack -/
theorem es_p [Inhabited fz_] {x1 : Int} (hn : 0 ≤ n ∧ n < 64) (hc : 0 ≤ c ∧ c ≤ 11900)
    (hX : ∀ (V : vv_) (Qr : qr_) (Qt : qt_), Cl_ wd0 (Tr_ wd0 pg0 2) V Qr Qt m_15 → Wk_ V → Tr_ wd0 pg0 2 16 [.inr (.inr 0), .inl v] (exX M A n) (rv_ fun M1 => V 365 [rr 0, ii x1, rr 109, ii c, ii o, none] [] M1) Qt → V 10 [rr 0, ii x1, rr 109, ii c, none, none] [] (exX M A n)) :
    RC 2 m_15 10 [rr 0, ii x1, rr 109, ii c, none, none] (exX M A n) 10 [rr 0, ii x1, rr 109, ii (c + lnX o), none, none] (exX M (su_ A n v) (n + 1)) := fun V Qr Qt hV hW g => hX V Qr Qt hV hW (Ex_le (d := 1) (by decide) (x_16 hn) _ _ (rv_i (x_365 hV hW hc g)))
/-- what both say of a form -/
def ES1 (M N : mm_) (k p c : Int) (x : Int × Int) (A B : Int → Int) (s s' : List Int) : Prop :=
  (∃ A' B', (∀ x1, RC 2 m_15 10 [rr 0, ii x1, rr 109, ii c, none, none] (exX M A (p + s.length)) 10 [rr 0, ii x1, rr 109, ii (c + (en_1 (tbN N) x).length), none, none] (exX M A' (p + s'.length))) ∧ Ex_ 3 340 [.inr (.inr 6), .inl k, .inl x.1, .inl x.2] (exQ N B s.length 0) [] (exQ N B' s'.length 0) ∧ KS p A' B' s' ∧ ∀ j, j < p → A' j = A j)
  ∨ (∃ e A' n' B' m', (e = 1 ∨ e = 2) ∧ (0 ≤ m' ∧ m' ≤ 100) ∧ (∀ x1, XT 2 m_15 10 [rr 0, ii x1, rr 109, ii c, none, none] (exX M A (p + s.length)) (up_ (exX M A' n') 0 49 e)) ∧ Ex_ 3 340 [.inr (.inr 6), .inl k, .inl x.1, .inl x.2] (exQ N B s.length 0) [] (exQ N B' m' e))
/-- of one that puts a value -/
theorem ES1_p [Inhabited fz_] (hK : KS p A B s) (hl : s.length ≤ 57) (hp : 0 ≤ p ∧ p ≤ 6) (hc : 0 ≤ c ∧ c ≤ 11900) (hv : (t = 2 → BV v) ∧ R32 v) (ho : lnX o = (en_1 (tbN N) x).length)
    (hX : ∀ (x1 : Int) (V : vv_) (Qr : qr_) (Qt : qt_), Cl_ wd0 (Tr_ wd0 pg0 2) V Qr Qt m_15 → Wk_ V → Tr_ wd0 pg0 2 16 [.inr (.inr 0), .inl v] (exX M A (p + s.length)) (rv_ fun M1 => V 365 [rr 0, ii x1, rr 109, ii c, ii o, none] [] M1) Qt → V 10 [rr 0, ii x1, rr 109, ii c, none, none] [] (exX M A (p + s.length)))
    (hQ : ∀ (Qr : qr_) (Qt : qt_), Tr_ wd0 pg0 2 341 [.inr (.inr 6), .inl v] (exQ N B s.length 0) (rv_ fun M1 => Qr [] M1) Qt → Tr_ wd0 pg0 3 340 [.inr (.inr 6), .inl k, .inl x.1, .inl x.2] (exQ N B s.length 0) Qr Qt) : ES1 M N k p c x A B s (t :: s) := by
  refine .inl ⟨_, _, fun x1 => ?_, fun Qr Qt g => hQ Qr Qt (Ex_le (d := 1) (by decide) (q_341 (by omega)) _ _ (rv_i g)), KS_push hK hv, fun j hj => su_ne (by omega)⟩
  rw [← ho]
  have := es_p (x1 := x1) (n := p + s.length) (v := v) (by (clear hK hc hv ho hX hQ; omega)) hc (hX x1)
  rw [show ((t :: s).length : Int) = s.length + 1 by simp only [List.length_cons]; omega, ← Int.add_assoc]
  exact this
theorem swc_109 [Inhabited fz_] : swc M 142 = M 109 := swc_r (by decide) (by decide)
theorem stX_1 [Inhabited fz_] {y0 : Int} (h : stX M c [y0]) : M 142 c = y0 := (show M 142 c = M 142 (c + ((0 : Nat) : Int)) by rw [show c + ((0 : Nat) : Int) = c by omega]).trans h.1
theorem stX_2 [Inhabited fz_] {y0 y1 : Int} (h : stX M c [y1, y0]) : M 142 c = y0 ∧ M 142 (c + 1) = y1 := ⟨stX_1 h.2, h.1⟩
theorem stX_3 [Inhabited fz_] {y0 y1 y2 : Int} (h : stX M c [y2, y1, y0]) : M 142 c = y0 ∧ M 142 (c + 1) = y1 ∧ M 142 (c + 2) = y2 := ⟨stX_1 h.2.2, h.2.1, h.1⟩
end ESa
end T344_es
section T345_e1
/-! the run: one form of an e, by kinds -/
section E1a
variable {z : Int} {M N : mm_} {A B A' B' : Int → Int} {n m e k t v w a b o i j c T p q : Int} {s r s' : List Int} {x : Int × Int}
/-- a number -/
theorem ev_1 [Inhabited fz_] (hx : x.1 = 1) (hK : KS p A B s) (hl : s.length ≤ 57) (hp : 0 ≤ p ∧ p ≤ 6) (hc : 0 ≤ c ∧ c ≤ 11900) (hv : (t = 2 → BV x.2) ∧ 0 ≤ x.2 ∧ x.2 < 1000000000) (hC : EVC z M N k T) (hS : stX (swc M) c (en_1 (tbN N) x)) : ES1 M N k p c x A B s (t :: s) := by
  have en : en_1 (tbN N) x = [x.2, 0] := by unfold en_1; rw [if_pos hx]
  rw [en] at hS
  have h2 := stX_2 hS
  rw [swc_109] at h2
  have h12 := hC.1.1.1
  refine ES1_p (o := 0) hK hl hp hc ⟨hv.1, by unfold R32; omega⟩ (by rw [en]; rfl) (fun x1 V Qr Qt hV hW g => b_15_10 (Tr_mono _) hV hW _ _ _ ⟨by omega, ?_⟩) (fun Qr Qt g => t_340 fun V hV hW => b_340_0 (Tr_mono _) hV hW _ _ _ _ (Ex_le (d := 1) (by decide) (q_323 (by have := hC.2.1; (clear hx hK hl hp hc hv hC hS en h2 g hV hW; omega))) _ _ (ri_i ?_)))
  · rw [exX_r (r := 109) (by decide) (by decide), h2.1, w32_id (x := c + 1) (by omega) (by omega), h2.2]
    simp only [Int.reduceLT, Int.reduceEq, if_true, if_false]
    exact ⟨by omega, g⟩
  · rw [hx]; simp only [Int.reduceEq, if_true, if_false]; exact g
theorem ev_5 [Inhabited fz_] (hx : x.1 = 5) (h2 : 0 ≤ x.2 ∧ x.2 ≤ 3) (hK : KS p A B s) (hl : s.length ≤ 57) (hp : 0 ≤ p ∧ p ≤ 6) (hc : 0 ≤ c ∧ c ≤ 11900) (hC : EVC z M N k T) (hS : stX (swc M) c (en_1 (tbN N) x)) : ES1 M N k p c x A B s (3 :: s) := by
  have en : en_1 (tbN N) x = [x.2 + 1] := by unfold en_1; rw [if_neg (by omega), if_pos hx]
  rw [en] at hS
  have hh := stX_1 hS
  rw [swc_109] at hh
  have h12 := hC.1.1.1
  have hk := hC.2.1
  have hB : sB k = 2 + 56 * k := rfl
  have e46 : exX M A (p + s.length) 0 46 = k := by rw [exX_0 (by decide)]; exact hC.2.2.1
  obtain ⟨i1, i2, i3, i4, i5, i6⟩ := (hC.1.1.2.2.1 k hk.1 hk.2).1
  have four : x.2 = 0 ∨ x.2 = 1 ∨ x.2 = 2 ∨ x.2 = 3 := by (clear hx hK hl hp hc hC hS en h12 hk hB e46 i1 i2 i3 i4 i5 i6; lia)
  rcases four with h | h | h | h
  · rw [h] at hh
    refine ES1_p (o := 1) (v := M 10 k) hK hl hp hc ⟨fun e => absurd e (by decide), by rw [i1]; exact hC.2.2.2.2.2.2 _⟩ (by rw [en]; rfl) (fun x1 V Qr Qt hV hW g => b_15_10 (Tr_mono _) hV hW _ _ _ ⟨by omega, ?_⟩) (fun Qr Qt g => t_340 fun V hV hW => b_340_0 (Tr_mono _) hV hW _ _ _ _ (Ex_le (d := 1) (by decide) (q_323 (by (clear hx h2 hK hl hp hc hC hS en hh hB i1 i2 i3 i4 i5 i6 h g hV hW; lia))) _ _ (ri_i ?_)))
    · rw [exX_r (r := 109) (by decide) (by decide), hh, e46]
      simp only [Int.reduceAdd, Int.reduceLT, Int.reduceEq, if_true, if_false]
      rw [exX_r (r := 10) (by decide) (by decide)]
      exact ⟨by (clear hx h2 hK hl hp hc hC hS en hh hB i1 i2 i3 i4 i5 i6 h hV hW g; lia), g⟩
    · rw [hx, h]; simp only [Int.reduceEq, if_true, if_false]; rw [exQ_r (r := 239) (by decide) (by decide), ← i1]; exact ⟨by (clear hx h2 hK hl hp hc hC hS en hh i1 i2 i3 i4 i5 i6 h g hV hW; lia), g⟩
  · rw [h] at hh
    refine ES1_p (o := 2) (v := M 18 k) hK hl hp hc ⟨fun e => absurd e (by decide), by rw [i4]; exact hC.2.2.2.2.2.2 _⟩ (by rw [en]; rfl) (fun x1 V Qr Qt hV hW g => b_15_10 (Tr_mono _) hV hW _ _ _ ⟨by omega, ?_⟩) (fun Qr Qt g => t_340 fun V hV hW => b_340_0 (Tr_mono _) hV hW _ _ _ _ (Ex_le (d := 1) (by decide) (q_323 (by omega)) _ _ (ri_i ?_)))
    · rw [exX_r (r := 109) (by decide) (by decide), hh, e46]
      simp only [Int.reduceAdd, Int.reduceLT, Int.reduceEq, if_true, if_false]
      rw [exX_r (r := 18) (by decide) (by decide)]
      exact ⟨by omega, g⟩
    · rw [hx, h, w32_id (x := sB k + 2) (by (clear hx h2 hK hl hp hc hC hS en hh h12 i1 i2 i3 i4 i5 i6 h g hV hW; lia)) (by (clear hx h2 hK hl hp hc hC hS en hh i1 i2 i3 i4 i5 i6 h g hV hW; lia)), w32_id (x := sB k + 2 + 1) (by (clear hx h2 hK hl hp hc hC hS en hh h12 i1 i2 i3 i4 i5 i6 h g hV hW; lia)) (by (clear hx h2 hK hl hp hc hC hS en hh i1 i2 i3 i4 i5 i6 h g hV hW; lia)), show sB k + 2 + 1 = sB k + 3 by (clear hx h2 hK hl hp hc hC hS en hh h12 hk hB e46 i1 i2 i3 i4 i5 i6 h g hV hW; omega)]; simp only [Int.reduceEq, if_true, if_false]; rw [exQ_r (r := 239) (by decide) (by decide), ← i4]; exact ⟨by (clear hx h2 hK hl hp hc hC hS en hh i1 i2 i3 i4 i5 i6 h g hV hW; lia), g⟩
  · rw [h] at hh
    refine ES1_p (o := 3) (v := M 19 k) hK hl hp hc ⟨fun e => absurd e (by decide), by rw [i5]; exact hC.2.2.2.2.2.2 _⟩ (by rw [en]; rfl) (fun x1 V Qr Qt hV hW g => b_15_10 (Tr_mono _) hV hW _ _ _ ⟨by omega, ?_⟩) (fun Qr Qt g => t_340 fun V hV hW => b_340_0 (Tr_mono _) hV hW _ _ _ _ (Ex_le (d := 1) (by decide) (q_323 (by omega)) _ _ (ri_i ?_)))
    · rw [exX_r (r := 109) (by decide) (by decide), hh, e46]
      simp only [Int.reduceAdd, Int.reduceLT, Int.reduceEq, if_true, if_false]
      rw [exX_r (r := 19) (by decide) (by decide)]
      exact ⟨by omega, g⟩
    · rw [hx, h, w32_id (x := sB k + 2) (by omega) (by omega), w32_id (x := sB k + 2 + 2) (by (clear hx h2 hK hl hp hc hC hS en hh h12 i1 i2 i3 i4 i5 i6 h g hV hW; lia)) (by (clear hx h2 hK hl hp hc hC hS en hh i1 i2 i3 i4 i5 i6 h g hV hW; lia)), show sB k + 2 + 2 = sB k + 4 by (clear hx h2 hK hl hp hc hC hS en hh h12 hk hB e46 i1 i2 i3 i4 i5 i6 h g hV hW; lia)]; simp only [Int.reduceEq, if_true, if_false]; rw [exQ_r (r := 239) (by decide) (by decide), ← i5]; exact ⟨by (clear hx h2 hK hl hp hc hC hS en hh i1 i2 i3 i4 i5 i6 h g hV hW; lia), g⟩
  · rw [h] at hh
    refine ES1_p (o := 4) (v := M 20 k) hK hl hp hc ⟨fun e => absurd e (by decide), by rw [i6]; exact hC.2.2.2.2.2.2 _⟩ (by rw [en]; rfl) (fun x1 V Qr Qt hV hW g => b_15_10 (Tr_mono _) hV hW _ _ _ ⟨by omega, ?_⟩) (fun Qr Qt g => t_340 fun V hV hW => b_340_0 (Tr_mono _) hV hW _ _ _ _ (Ex_le (d := 1) (by decide) (q_323 (by omega)) _ _ (ri_i ?_)))
    · rw [exX_r (r := 109) (by decide) (by decide), hh, e46]
      simp only [Int.reduceAdd, Int.reduceLT, Int.reduceEq, if_true, if_false]
      rw [exX_r (r := 20) (by decide) (by decide)]
      exact ⟨by omega, g⟩
    · rw [hx, h, w32_id (x := sB k + 2) (by omega) (by omega), w32_id (x := sB k + 2 + 3) (by (clear hx h2 hK hl hp hc hC hS en hh h12 i1 i2 i3 i4 i5 i6 h g hV hW; lia)) (by (clear hx h2 hK hl hp hc hC hS en hh i1 i2 i3 i4 i5 i6 h g hV hW; lia)), show sB k + 2 + 3 = sB k + 5 by (clear hx h2 hK hl hp hc hC hS en hh h12 hk hB e46 i1 i2 i3 i4 i5 i6 h g hV hW; lia)]; simp only [Int.reduceEq, if_true, if_false]; rw [exQ_r (r := 239) (by decide) (by decide), ← i6]; exact ⟨by (clear hx h2 hK hl hp hc hC hS en hh i1 i2 i3 i4 i5 i6 h g hV hW; lia), g⟩
theorem ev_8 [Inhabited fz_] (hx : x.1 = 8 ∨ x.1 = 9) (hK : KS p A B s) (hl : s.length ≤ 57) (hp : 0 ≤ p ∧ p ≤ 6) (hc : 0 ≤ c ∧ c ≤ 11900) (hC : EVC z M N k T) (hS : stX (swc M) c (en_1 (tbN N) x)) : ES1 M N k p c x A B s (1 :: s) := by
  have h12 := hC.1.1.1
  have hk := hC.2.1
  have hB : sB k = 2 + 56 * k := rfl
  have e46 : exX M A (p + s.length) 0 46 = k := by rw [exX_0 (by decide)]; exact hC.2.2.1
  rcases hx with hx | hx
  · have en : en_1 (tbN N) x = [5] := by unfold en_1; rw [if_neg (by (clear hK hl hp hc hC hS h12 hk hB e46; lia)), if_neg (by (clear hK hl hp hc hC hS h12 hk hB e46; lia)), if_pos hx]
    rw [en] at hS
    have hh := stX_1 hS
    rw [swc_109] at hh
    refine ES1_p (o := 5) (v := M 0 9) hK hl hp hc ⟨fun e => absurd e (by decide), by have := hC.1.2.2.1.2.1.2; unfold R32; (clear hK hl hp hc hC hS h12 hk hB e46 hx en hh; omega)⟩ (by rw [en]; rfl) (fun x1 V Qr Qt hV hW g => b_15_10 (Tr_mono _) hV hW _ _ _ ⟨by omega, ?_⟩) (fun Qr Qt g => t_340 fun V hV hW => b_340_0 (Tr_mono _) hV hW _ _ _ _ (Ex_le (d := 1) (by decide) (q_323 (by omega)) _ _ (ri_i ?_)))
    · rw [exX_r (r := 109) (by decide) (by decide), hh]
      simp only [Int.reduceAdd, Int.reduceLT, Int.reduceEq, if_true, if_false]
      rw [exX_0 (i := 9) (by decide)]
      exact g
    · rw [hx]; simp only [Int.reduceEq, if_true, if_false]; rw [exQ_6 (i := 128) (by decide) (by decide), ← hC.1.2.2.1.2.1.1]; exact g
  · have en : en_1 (tbN N) x = [6] := by unfold en_1; rw [if_neg (by (clear hK hl hp hc hC hS h12 hk hB e46; lia)), if_neg (by (clear hK hl hp hc hC hS h12 hk hB e46; lia)), if_neg (by (clear hK hl hp hc hC hS h12 hk hB e46; lia)), if_pos hx]
    rw [en] at hS
    have hh := stX_1 hS
    rw [swc_109] at hh
    refine ES1_p (o := 6) (v := M 14 k) hK hl hp hc ⟨fun e => absurd e (by decide), by have := (hC.1.1.2.2.1 k hk.1 hk.2).2.2.2.2.1; unfold R32; (clear hK hl hp hc hC hS h12 hk hB e46 hx en hh; omega)⟩ (by rw [en]; rfl) (fun x1 V Qr Qt hV hW g => b_15_10 (Tr_mono _) hV hW _ _ _ ⟨by omega, ?_⟩) (fun Qr Qt g => t_340 fun V hV hW => b_340_0 (Tr_mono _) hV hW _ _ _ _ (Ex_le (d := 1) (by decide) (q_323 (by omega)) _ _ (ri_i ?_)))
    · rw [exX_r (r := 109) (by decide) (by decide), hh, e46]
      simp only [Int.reduceAdd, Int.reduceLT, Int.reduceEq, if_true, if_false]
      rw [exX_r (r := 14) (by decide) (by decide)]
      exact ⟨by omega, g⟩
    · rw [hx, w32_id (x := sB k + 25) (by (clear hK hl hp hc hC hS h12 hx en hh g hV hW; omega)) (by (clear hK hl hp hc hC hS hx en hh g hV hW; lia))]; simp only [Int.reduceEq, if_true, if_false]; rw [exQ_r (r := 239) (by decide) (by decide), (hC.1.1.2.2.1 k hk.1 hk.2).2.2.2.2.1.2.2]; exact ⟨by omega, g⟩
theorem ev_10 [Inhabited fz_] (hx : x.1 = 10) (h2 : 0 ≤ x.2 ∧ x.2 < 3) (hK : KS p A B s) (hl : s.length ≤ 57) (hp : 0 ≤ p ∧ p ≤ 6) (hc : 0 ≤ c ∧ c ≤ 11900) (hC : EVC z M N k T) (hS : stX (swc M) c (en_1 (tbN N) x)) : ES1 M N k p c x A B s (2 :: s) := by
  have h12 := hC.1.1.1
  have hk := hC.2.1
  have hB : sB k = 2 + 56 * k := rfl
  have e46 : exX M A (p + s.length) 0 46 = k := by rw [exX_0 (by decide)]; exact hC.2.2.1
  have en : en_1 (tbN N) x = [x.2, 7] := by unfold en_1; rw [if_neg (by (clear h2 hK hl hp hc hC hS h12 hk hB e46; lia)), if_neg (by (clear h2 hK hl hp hc hC hS h12 hk hB e46; lia)), if_neg (by (clear h2 hK hl hp hc hC hS h12 hk hB e46; lia)), if_neg (by (clear h2 hK hl hp hc hC hS h12 hk hB e46; omega)), if_pos hx]
  rw [en] at hS
  have hh := stX_2 hS
  rw [swc_109] at hh
  obtain ⟨v, bv, xv, qv⟩ := j_17 (RU_ex (A := A) (B := B) (n := p + s.length) (m := s.length) (e := 0) hC.1) (by rw [exX_0 (by decide)]; exact hk) e46 h2
  refine ES1_p (o := 7) (v := v) hK hl hp hc ⟨fun _ => bv, R32_b bv⟩ (by rw [en]; rfl) (fun x1 V Qr Qt hV hW g => b_15_10 (Tr_mono _) hV hW _ _ _ ⟨by omega, ?_⟩) (fun Qr Qt g => t_340 fun V hV hW => b_340_0 (Tr_mono _) hV hW _ _ _ _ (Ex_le (d := 1) (by decide) (q_323 (by omega)) _ _ (ri_i ?_)))
  · rw [exX_r (r := 109) (by decide) (by decide), hh.1, w32_id (x := c + 1) (by omega) (by omega), hh.2]
    simp only [Int.reduceAdd, Int.reduceLT, Int.reduceEq, if_true, if_false]
    refine ⟨by omega, xv _ _ (ri_i ?_)⟩
    rcases bv with e | e
    · rw [if_pos e]; rw [e] at g; exact g
    · rw [if_neg (by (clear hx h2 hK hl hp hc hC hS h12 hk hB e46 en hh xv qv hV hW g; lia))]; rw [e] at g; exact g
  · rw [hx]; simp only [Int.reduceEq, if_true, if_false]
    refine qv _ _ (ri_i ?_)
    rcases bv with e | e
    · rw [if_pos e]; rw [e] at g; exact g
    · rw [if_neg (by omega)]; rw [e] at g; exact g
theorem vr_b [Inhabited fz_] (hC : EVC z M N k T) (h2 : 8 * T ≤ x.2 ∧ x.2 < 8 * T + N 171 T) : (0 ≤ x.2 ∧ x.2 < 48) ∧ (0 ≤ N 184 x.2 ∧ N 184 x.2 + (if 1 < N 183 x.2 then N 183 x.2 else 1) ≤ 16) := by
  obtain ⟨hR, hk, _, hT, hP, _⟩ := hC
  have ty := (hR.1.2.2.1 k hk.1 hk.2).2.1.2.1
  rw [hT] at ty
  have p19 := hP.1.2.2
  rw [tbN_6 (by decide)] at p19
  have pt := hP.2.1 T ty.1 (by rw [tbN_6 (by decide)]; exact ty.2)
  unfold PTY at pt
  rw [tbN_r (q := 171) (by decide) (by decide), tbN_r (q := 172) (by decide) (by decide), tbN_r (q := 183) (by decide) (by decide), tbN_r (q := 184) (by decide) (by decide)] at pt
  have l8 := pt.2.2.1.2.1.2
  have l16 := pt.2.2.1.2.2.1.2
  have q := (pt.2.2.2.1 (x.2 - 8 * T) (by (clear hR hk hP ty p19 pt l8 l16; lia)) (by omega))
  rw [show 8 * T + (x.2 - 8 * T) = x.2 by (clear h2 hR hk hT hP ty p19 pt l8 l16 q; lia)] at q
  have := q.2.2
  exact ⟨by (clear hR hk hP l8 l16 q this; omega), by omega, by (clear h2 hR hk hT hP ty p19 l8 l16 this; omega)⟩
theorem ev_11 [Inhabited fz_] (hx : x.1 = 11) (h2 : 8 * T ≤ x.2 ∧ x.2 < 8 * T + N 171 T) (hK : KS p A B s) (hl : s.length ≤ 57) (hp : 0 ≤ p ∧ p ≤ 6) (hc : 0 ≤ c ∧ c ≤ 11900) (hC : EVC z M N k T) (hS : stX (swc M) c (en_1 (tbN N) x)) : ES1 M N k p c x A B s (N 182 x.2 :: s) := by
  have h12 := hC.1.1.1
  have hk := hC.2.1
  have hB : sB k = 2 + 56 * k := rfl
  have e46 : exX M A (p + s.length) 0 46 = k := by rw [exX_0 (by decide)]; exact hC.2.2.1
  have en : en_1 (tbN N) x = [N 184 x.2, 8] := by unfold en_1; rw [if_neg (by omega), if_neg (by omega), if_neg (by omega), if_neg (by omega), if_neg (by omega), if_pos hx, tbN_r (by decide) (by decide)]
  rw [en] at hS
  have hh := stX_2 hS
  rw [swc_109] at hh
  obtain ⟨b1, b2, b3⟩ := vr_b hC h2
  have b4 : N 184 x.2 < 16 := by split at b3 <;> (clear hx h2 hK hl hp hc hC hS h12 hk hB e46 en hh b1; omega)
  have cl := (hC.1.1.2.2.1 k hk.1 hk.2).2.2.1.1 (N 184 x.2) b2 b4
  refine ES1_p (o := 8) (v := M 13 (16 * k + N 184 x.2)) hK hl hp hc ⟨fun e => ?_, by rw [cl]; exact hC.2.2.2.2.2.2 _⟩ (by rw [en]; rfl) (fun x1 V Qr Qt hV hW g => b_15_10 (Tr_mono _) hV hW _ _ _ ⟨by omega, ?_⟩) (fun Qr Qt g => t_340 fun V hV hW => b_340_0 (Tr_mono _) hV hW _ _ _ _ (Ex_le (d := 1) (by decide) (q_323 (by omega)) _ _ (ri_i ?_)))
  · have := hC.2.2.2.2.2.1 (x.2 - 8 * T) (by omega) (by (clear hx hK hl hp hc hC hS h12 hk hB e46 en hh b1 b2 b3 b4 cl e; omega)) (by rw [show 8 * T + (x.2 - 8 * T) = x.2 by (clear hx h2 hK hl hp hc hC hS h12 hk hB e46 en hh b1 b2 b3 b4 cl e; lia)]; exact e) 0 (by decide) (by split <;> (clear hx h2 hK hl hp hc hC hS h12 hk hB e46 en hh b1 b2 b3 b4 cl e; omega))
    rw [show 8 * T + (x.2 - 8 * T) = x.2 by omega, Int.add_zero] at this
    rw [cl]; exact this
  · rw [exX_r (r := 109) (by decide) (by decide), hh.1, e46, w32_id (x := c + 1) (by omega) (by (clear hx h2 hK hl hp hC hS h12 hk hB e46 en hh b1 b2 b3 b4 cl hV hW g; omega)), hh.2]
    simp only [Int.reduceAdd, Int.reduceLT, Int.reduceEq, if_true, if_false]
    rw [exX_r (r := 13) (by decide) (by decide), w32_id (x := 16 * k) (by omega) (by (clear hx h2 hK hl hp hc hC hS hB en hh b1 b2 b3 b4 cl hV hW g; lia)), w32_id (x := 16 * k + N 184 x.2) (by (clear hx h2 hK hl hp hc hC hS hB en hh b1 b3 cl hV hW g; lia)) (by (clear hx h2 hK hl hp hc hC hS hB en hh b1 b3 cl hV hW g; lia))]
    exact ⟨by omega, by (clear hx h2 hK hl hp hc hC hS hB en hh b1 b3 cl hV hW g; lia), g⟩
  · rw [hx]; simp only [Int.reduceEq, if_true, if_false]
    rw [exQ_r (r := 239) (by decide) (by decide), exQ_r (r := 184) (by decide) (by decide), w32_id (x := sB k + 6) (by (clear hx h2 hK hl hp hc hC hS h12 en hh b1 b2 b3 b4 cl g hV hW; lia)) (by (clear hx h2 hK hl hp hc hC hS en hh b1 b2 b3 b4 cl g hV hW; lia)), w32_id (x := sB k + 6 + N 184 x.2) (by (clear hx h2 hK hl hp hc hC hS en hh b1 b3 cl g hV hW; lia)) (by (clear hx h2 hK hl hp hc hC hS en hh b1 b3 cl g hV hW; omega)), ← cl]
    exact ⟨by omega, by omega, g⟩
end E1a
end T345_e1
section T346_e2
/-! the run: one form of an e, those that take from the stack -/
section E2a
variable {z : Int} {M N : mm_} {A B A' B' : Int → Int} {n m e k t v w a b o i j c T p q : Int} {s r s' : List Int} {x : Int × Int}
theorem KS_top [Inhabited fz_] {t0 : Int} (h : KS p A B (t0 :: r)) (hv : (t = 2 → BV v) ∧ R32 v) : KS p (su_ A (p + r.length) v) (su_ B r.length v) (t :: r) := KS_push (KS_pop h) hv
theorem lc [Inhabited fz_] {t0 : Int} : ((t0 :: r).length : Int) = r.length + 1 := by simp only [List.length_cons]; lia
theorem ev_12 [Inhabited fz_] {t0 : Int} (hx : x.1 = 12) (h2 : 8 * T ≤ x.2 ∧ x.2 < 8 * T + N 171 T) (h183 : 0 < N 183 x.2) (hK : KS p A B (t0 :: r)) (hl : (t0 :: r).length ≤ 58) (hp : 0 ≤ p ∧ p ≤ 6) (hc : 0 ≤ c ∧ c ≤ 11900) (hC : EVC z M N k T) (hS : stX (swc M) c (en_1 (tbN N) x)) : ES1 M N k p c x A B (t0 :: r) (N 182 x.2 :: r) := by
  have h12 := hC.1.1.1
  have hk := hC.2.1
  have hB : sB k = 2 + 56 * k := rfl
  have e46 : ∀ n, exX M A n 0 46 = k := fun n => by rw [exX_0 (by decide)]; exact hC.2.2.1
  have en : en_1 (tbN N) x = [N 183 x.2, N 184 x.2, 9] := by unfold en_1; rw [if_neg (by (clear h2 h183 hK hl hp hc hC hS h12 hk hB e46; lia)), if_neg (by (clear h2 h183 hK hl hp hc hC hS h12 hk hB e46; lia)), if_neg (by (clear h2 h183 hK hl hp hc hC hS h12 hk hB e46; omega)), if_neg (by (clear h2 h183 hK hl hp hc hC hS h12 hk hB e46; lia)), if_neg (by (clear h2 h183 hK hl hp hc hC hS h12 hk hB e46; lia)), if_neg (by (clear h2 h183 hK hl hp hc hC hS h12 hk hB e46; lia)), if_pos hx, tbN_r (by decide) (by decide), tbN_r (by decide) (by decide)]
  rw [en] at hS
  have hh := stX_3 hS
  rw [swc_109] at hh
  obtain ⟨b1, b2, b3⟩ := vr_b hC h2
  have hat := KS_at hK
  have hlr : (r.length : Int) ≤ 57 := by simp only [List.length_cons] at hl; (clear hx h2 h183 hK hp hc hC hS h12 hk hB e46 en hh b1 b2 b3 hat; omega)
  unfold ES1
  rw [lc, lc, ← Int.add_assoc]
  have pp : ∀ (V : vv_) (Qt : qt_) (K : Int → mm_ → Prop), K (B r.length) (exX M A (p + r.length)) → Tr_ wd0 pg0 2 18 [.inr (.inr 0)] (exX M A (p + r.length + 1)) (ri_ K) Qt := fun V Qt K g => by
    have x18 := x_18 (M := M) (A := A) (n := p + r.length + 1) (by (clear hx h2 h183 hK hl hc hC hS h12 hk hB e46 en hh b1 b2 b3 hat g; omega))
    rw [show p + (r.length : Int) + 1 - 1 = p + r.length by (clear hx h2 h183 hK hl hp hc hC hS h12 hk hB e46 en hh b1 b2 b3 hat hlr g x18; lia), hat] at x18
    exact Ex_le (d := 1) (by decide) x18 _ _ (ri_i g)
  by_cases c1 : B r.length < 0 ∨ N 183 x.2 ≤ B r.length
  · refine .inr ⟨1, A, p + r.length, B, r.length + 1, .inl rfl, by (clear hx h2 h183 hK hl hp hc hC hS h12 hk hB e46 en hh b1 b2 b3 hat pp c1; omega), fun x1 V Qr Qt hV hW g => b_15_10 (Tr_mono _) hV hW _ _ _ ⟨by omega, ?_⟩, fun Qr Qt g => t_340 fun V hV hW => b_340_0 (Tr_mono _) hV hW _ _ _ _ (Ex_le (d := 1) (by decide) (q_323 (by (clear hx h2 h183 hK hl hp hc hC hS hB e46 en hh b1 b2 b3 hat hlr pp c1 g hV hW; omega))) _ _ (ri_i ?_))⟩
    · rw [exX_r (r := 109) (by decide) (by decide), hh.1]
      simp only [Int.reduceAdd, Int.reduceLT, Int.reduceEq, if_true, if_false]
      refine pp V Qt _ ?_
      have fl : Tr_ wd0 pg0 2 19 [.inr (.inr 0), .inl 1] (exX M A (p + r.length)) (rf_r fun v22 M30 => if v22 = 1999 then False else Qt v22 M30) Qt := Ex_le (d := 1) (by decide) x_19 _ _ (rf_i (by rw [if_neg (by decide)]; exact g))
      by_cases c2 : B r.length < 0
      · rw [if_pos c2]; exact fl
      · rw [if_neg c2, exX_r (r := 109) (by decide) (by decide), w32_id (x := c + 2) (by (clear hx h2 h183 hK hl hp hC hS h12 hk hB e46 en hh b1 b2 b3 hat hlr pp c1 hV hW g fl c2; omega)) (by (clear hx h2 h183 hK hl hp hC hS h12 hk hB e46 en hh b1 b2 b3 hat hlr pp c1 hV hW g fl c2; omega)), hh.2.2, if_neg (by (clear hx h2 h183 hK hl hp hc hC hS h12 hk hB e46 en b1 b2 b3 hat hlr pp hV hW g fl; omega))]
        exact ⟨by (clear hx h2 h183 hK hl hp hC hS h12 hk hB e46 en hh b1 b2 b3 hat hlr pp c1 hV hW g fl c2; lia), fl⟩
    · rw [hx]; simp only [Int.reduceEq, if_true, if_false]
      rw [exQ_148, exQ_243, w32_id (x := (r.length : Int) + 1 - 1) (by (clear hx h2 h183 hK hl hp hc hC hS h12 hk hB e46 en hh b1 b2 b3 hat pp c1 g hV hW; lia)) (by (clear hx h2 h183 hK hl hp hc hC hS h12 hk hB e46 en hh b1 b2 b3 hat pp c1 g hV hW; omega)), show (r.length : Int) + 1 - 1 = r.length by omega, exQ_e]
      refine ⟨by (clear hx h2 h183 hK hl hp hc hC hS h12 hk hB e46 en hh b1 b2 b3 hat pp c1 g hV hW; omega), ?_⟩
      by_cases c2 : B r.length < 0
      · rw [if_pos c2]; exact g
      · rw [if_neg c2, exQ_r (r := 183) (by decide) (by decide), if_neg (by omega)]
        exact ⟨by omega, by omega, g⟩
  · have c3 : B r.length < N 183 x.2 := by (clear hx h2 h183 hK hl hp hc hC hS h12 hk hB e46 en b1 b2 b3 hat hlr pp; omega)
    have c4 : 0 ≤ B r.length := by omega
    have b4 : N 184 x.2 + B r.length < 16 := by split at b3 <;> (clear hx h2 hK hl hp hc hC hS h12 hk hB e46 en b1 hat hlr pp c3 c4; omega)
    have cl := (hC.1.1.2.2.1 k hk.1 hk.2).2.2.1.1 (N 184 x.2 + B r.length) (by (clear hx h2 h183 hK hl hp hc hC hS h12 hk hB e46 en hh b1 b3 hat hlr pp c3 c4 b4; omega)) b4
    refine .inl ⟨su_ A (p + r.length) (M 13 (16 * k + (N 184 x.2 + B r.length))), su_ B r.length (M 13 (16 * k + (N 184 x.2 + B r.length))), fun x1 V Qr Qt hV hW g => b_15_10 (Tr_mono _) hV hW _ _ _ ⟨by omega, ?_⟩, fun Qr Qt g => t_340 fun V hV hW => b_340_0 (Tr_mono _) hV hW _ _ _ _ (Ex_le (d := 1) (by decide) (q_323 (by omega)) _ _ (ri_i ?_)), KS_top hK ⟨fun e => ?_, by rw [cl]; exact hC.2.2.2.2.2.2 _⟩, fun j hj => su_ne (by (clear hx h2 h183 hK hl hp hc hC hS h12 hk hB e46 en hh b1 b2 b3 hat pp c1 c3 c4 b4 cl; lia))⟩
    · rw [exX_r (r := 109) (by decide) (by decide), hh.1]
      simp only [Int.reduceAdd, Int.reduceLT, Int.reduceEq, if_true, if_false]
      refine pp V Qt _ ?_
      rw [if_neg (by (clear hx h2 h183 hK hl hp hc hC hS h12 hk hB e46 en hh b1 b2 b3 hat hlr pp c3 c4 b4 cl hV hW g; omega)), exX_r (r := 109) (by decide) (by decide), w32_id (x := c + 2) (by omega) (by omega), hh.2.2, if_pos c3, w32_id (x := c + 1) (by (clear hx h2 h183 hK hl hp hC hS h12 hk hB e46 en hh b1 b2 b3 hat hlr pp c1 c3 c4 b4 cl hV hW g; omega)) (by (clear hx h2 h183 hK hl hp hC hS h12 hk hB e46 en hh b1 b2 b3 hat hlr pp c1 c3 c4 b4 cl hV hW g; omega)), hh.2.1, e46, w32_id (x := 16 * k) (by (clear hx h2 h183 hK hl hp hc hC hS h12 hB e46 en hh b1 b2 b3 hat hlr pp c1 c3 c4 b4 cl hV hW g; lia)) (by (clear hx h2 h183 hK hl hp hc hC hS hB e46 en hh b1 b2 b3 hat hlr pp c1 c3 c4 b4 cl hV hW g; omega)), w32_id (x := 16 * k + N 184 x.2) (by (clear hx h2 h183 hK hl hp hc hC hS hB e46 en hh b1 b3 hat hlr pp c1 c3 c4 b4 cl hV hW g; lia)) (by (clear hx h2 h183 hK hl hp hc hC hS hB e46 en hh b1 b2 b3 hat hlr pp c3 c4 cl hV hW g; lia)), w32_id (x := 16 * k + N 184 x.2 + B r.length) (by (clear hx h2 h183 hK hl hp hc hC hS hB e46 en hh b1 b3 hat hlr pp c3 c4 b4 cl hV hW g; lia)) (by (clear hx h2 h183 hK hl hp hc hC hS hB e46 en hh b1 b2 b3 hat hlr pp c1 c3 c4 cl hV hW g; lia)), exX_r (r := 13) (by decide) (by decide), Int.add_assoc]
      exact ⟨by omega, by omega, by (clear hx h2 h183 hK hl hp hc hC hS hB e46 en hh b1 b3 hat hlr pp c3 c4 cl hV hW g; omega), Ex_le (d := 1) (by decide) (x_16 (by (clear hx h2 h183 hK hl hc hC hS h12 hk hB e46 en hh b1 b2 b3 hat pp c1 c3 c4 b4 cl hV hW g; omega))) _ _ (rv_i (x_365 (o := 9) hV hW hc (by rw [en] at g; exact g)))⟩
    · rw [hx]; simp only [Int.reduceEq, if_true, if_false]
      rw [exQ_148, exQ_243, w32_id (x := (r.length : Int) + 1 - 1) (by (clear hx h2 h183 hK hl hp hc hC hS h12 hk hB e46 en hh b1 b2 b3 hat pp c1 c3 c4 b4 cl g hV hW; lia)) (by omega), show (r.length : Int) + 1 - 1 = r.length by omega, exQ_r (r := 183) (by decide) (by decide), exQ_r (r := 184) (by decide) (by decide), exQ_r (r := 239) (by decide) (by decide), if_neg (by (clear hx h2 h183 hK hl hp hc hC hS h12 hk hB e46 en hh b1 b2 b3 hat hlr pp c3 c4 b4 cl g hV hW; omega)), if_pos c3, w32_id (x := sB k + 6) (by (clear hx h2 h183 hK hl hp hc hC hS e46 en hh b1 b2 b3 hat hlr pp c1 c3 c4 b4 cl g hV hW; lia)) (by omega), w32_id (x := sB k + 6 + N 184 x.2) (by (clear hx h2 h183 hK hl hp hc hC hS e46 en hh b1 b3 hat hlr pp c1 c3 c4 b4 cl g hV hW; lia)) (by (clear hx h2 h183 hK hl hp hc hC hS e46 en hh b1 b2 b3 hat hlr pp c3 c4 cl g hV hW; omega)), w32_id (x := sB k + 6 + N 184 x.2 + B r.length) (by (clear hx h2 h183 hK hl hp hc hC hS e46 en hh b1 b3 hat hlr pp c3 c4 b4 cl g hV hW; lia)) (by (clear hx h2 h183 hK hl hp hc hC hS e46 en hh b1 b2 b3 hat hlr pp c1 c3 c4 cl g hV hW; omega)), Int.add_assoc (sB k + 6), ← cl, exQ_u]
      exact ⟨by omega, by omega, by omega, by omega, by omega, by (clear hx h2 h183 hK hl hp hc hC hS e46 en hh b1 b3 hat hlr pp c3 c4 cl g hV hW; omega), by omega, g⟩
    · have := hC.2.2.2.2.2.1 (x.2 - 8 * T) (by (clear hx h183 hK hl hp hc hC hS h12 hk hB e46 en hh b1 b2 b3 hat hlr pp c1 c3 c4 b4 cl e; lia)) (by (clear hx h183 hK hl hp hc hC hS h12 hk hB e46 en hh b1 b2 b3 hat hlr pp c1 c3 c4 b4 cl e; omega)) (by rw [show 8 * T + (x.2 - 8 * T) = x.2 by (clear hx h2 h183 hK hl hp hc hC hS h12 hk hB e46 en hh b1 b2 b3 hat hlr pp c1 c3 c4 b4 cl e; lia)]; exact e) (B r.length) c4 (by rw [show 8 * T + (x.2 - 8 * T) = x.2 by omega]; split <;> omega)
      rw [show 8 * T + (x.2 - 8 * T) = x.2 by (clear hx h2 h183 hK hl hp hc hC hS h12 hk hB e46 en hh b1 b2 b3 hat hlr pp c1 c3 c4 b4 cl e this; lia)] at this
      rw [cl]; exact this
theorem ev_13 [Inhabited fz_] (hx : x.1 = 13 ∨ x.1 = 14) (hK : KS p A B (pw_ x.1 :: r)) (hl : (pw_ x.1 :: r).length ≤ 58) (hp : 0 ≤ p ∧ p ≤ 6) (hc : 0 ≤ c ∧ c ≤ 11900) (hC : EVC z M N k T) (hS : stX (swc M) c (en_1 (tbN N) x)) : ES1 M N k p c x A B (pw_ x.1 :: r) (pw_ x.1 :: r) := by
  have h12 := hC.1.1.1
  have hk := hC.2.1
  have en : en_1 (tbN N) x = [x.1 + 2] := by
    unfold en_1; rw [if_neg (by (clear hK hl hp hc hC hS h12 hk; lia)), if_neg (by (clear hK hl hp hc hC hS h12 hk; lia)), if_neg (by (clear hK hl hp hc hC hS h12 hk; lia)), if_neg (by (clear hK hl hp hc hC hS h12 hk; lia)), if_neg (by (clear hK hl hp hc hC hS h12 hk; lia)), if_neg (by (clear hK hl hp hc hC hS h12 hk; lia)), if_neg (by (clear hK hl hp hc hC hS h12 hk; lia))]
    rcases hx with h | h
    · rw [if_pos h, h]; rfl
    · rw [if_neg (by (clear hK hl hp hc hC hS h12 hk; lia)), if_pos h, h]; rfl
  rw [en] at hS
  have hh := stX_1 hS
  rw [swc_109] at hh
  have hat := KS_at hK
  have hlr : (r.length : Int) ≤ 57 := by simp only [List.length_cons] at hl; (clear hx hK hp hc hC hS h12 hk en hh hat; omega)
  have pp : ∀ (V : vv_) (Qt : qt_) (K : Int → mm_ → Prop), K (B r.length) (exX M A (p + r.length)) → Tr_ wd0 pg0 2 18 [.inr (.inr 0)] (exX M A (p + r.length + 1)) (ri_ K) Qt := fun V Qt K g => by
    have x18 := x_18 (M := M) (A := A) (n := p + r.length + 1) (by (clear hx hK hl hc hC hS h12 hk en hh hat g; omega))
    rw [show p + (r.length : Int) + 1 - 1 = p + r.length by (clear hx hK hl hp hc hC hS h12 hk en hh hat hlr g x18; lia), hat] at x18
    exact Ex_le (d := 1) (by decide) x18 _ _ (ri_i g)
  unfold ES1
  rw [lc, ← Int.add_assoc, en]
  rcases hx with hx | hx
  · refine .inl ⟨su_ A (p + r.length) (w32 (-B r.length)), su_ B r.length (w32 (-B r.length)), fun x1 V Qr Qt hV hW g => b_15_10 (Tr_mono _) hV hW _ _ _ ⟨by (clear hK hl hp hC hS h12 hk en hh hat hlr pp hx hV hW g; omega), ?_⟩, fun Qr Qt g => t_340 fun V hV hW => b_340_0 (Tr_mono _) hV hW _ _ _ _ (Ex_le (d := 1) (by decide) (q_323 (by (clear hK hl hp hc hC hS en hh hat hlr pp hx g hV hW; omega))) _ _ (ri_i ?_)), KS_top hK ⟨fun e => ?_, R32_w⟩, fun j hj => su_ne (by (clear hK hl hp hc hC hS h12 hk en hh hat pp hx; lia))⟩
    · rw [exX_r (r := 109) (by decide) (by decide), hh, hx]
      simp only [Int.reduceAdd, Int.reduceLT, Int.reduceEq, if_true, if_false]
      refine pp V Qt _ ?_
      exact Ex_le (d := 1) (by decide) (x_16 (by (clear hK hl hc hC hS h12 hk en hh hat pp hx hV hW g; omega))) _ _ (rv_i (x_365 (o := 15) hV hW hc g))
    · rw [hx]; simp only [Int.reduceEq, if_true, if_false]
      rw [exQ_148, exQ_243, w32_id (x := (r.length : Int) + 1 - 1) (by omega) (by (clear hK hl hp hc hC hS h12 hk en hh hat pp hx g hV hW; omega)), show (r.length : Int) + 1 - 1 = r.length by (clear hK hl hp hc hC hS h12 hk en hh hat hlr pp hx g hV hW; lia), exQ_u]
      exact ⟨by (clear hK hl hp hc hC hS h12 hk en hh hat pp hx g hV hW; omega), by omega, g⟩
    · rw [hx] at e; exact absurd e (by decide)
  · refine .inl ⟨su_ A (p + r.length) (w32 (1 - B r.length)), su_ B r.length (w32 (1 - B r.length)), fun x1 V Qr Qt hV hW g => b_15_10 (Tr_mono _) hV hW _ _ _ ⟨by omega, ?_⟩, fun Qr Qt g => t_340 fun V hV hW => b_340_0 (Tr_mono _) hV hW _ _ _ _ (Ex_le (d := 1) (by decide) (q_323 (by omega)) _ _ (ri_i ?_)), KS_top hK ⟨fun e => ?_, R32_w⟩, fun j hj => su_ne (by omega)⟩
    · rw [exX_r (r := 109) (by decide) (by decide), hh, hx]
      simp only [Int.reduceAdd, Int.reduceLT, Int.reduceEq, if_true, if_false]
      refine pp V Qt _ ?_
      exact Ex_le (d := 1) (by decide) (x_16 (by omega)) _ _ (rv_i (x_365 (o := 16) hV hW hc g))
    · rw [hx]; simp only [Int.reduceEq, if_true, if_false]
      rw [exQ_148, exQ_243, w32_id (x := (r.length : Int) + 1 - 1) (by omega) (by omega), show (r.length : Int) + 1 - 1 = r.length by omega, exQ_u]
      exact ⟨by omega, by omega, g⟩
    · have bb := hK.2.1.1 (by rw [hx]; rfl)
      rcases bb with e | e
      · rw [e]; exact .inr (w32_id (x := 1 - 0) (by decide) (by decide))
      · rw [e]; exact .inl (w32_id (x := 1 - 1) (by decide) (by decide))
theorem ev_b [Inhabited fz_] {t1 t2 : Int} (hx : 20 ≤ x.1 ∧ x.1 ≤ 32) (h31 : 31 ≤ x.1 → t1 = 2 ∧ t2 = 2) (hK : KS p A B (t1 :: t2 :: r)) (hl : (t1 :: t2 :: r).length ≤ 58) (hp : 0 ≤ p ∧ p ≤ 6) (hc : 0 ≤ c ∧ c ≤ 11900) (hC : EVC z M N k T) (hS : stX (swc M) c (en_1 (tbN N) x)) : ES1 M N k p c x A B (t1 :: t2 :: r) ((if x.1 < 25 then 1 else 2) :: r) := by
  have h12 := hC.1.1.1
  have hk := hC.2.1
  have en : en_1 (tbN N) x = [oX x.1] := by
    unfold en_1 oX; rw [if_neg (by omega), if_neg (by omega), if_neg (by omega), if_neg (by omega), if_neg (by omega), if_neg (by (clear h31 hK hl hp hc hC hS h12 hk; omega)), if_neg (by omega), if_neg (by omega), if_neg (by (clear h31 hK hl hp hc hC hS h12 hk; omega))]
    repeat' split
    all_goals rfl
  rw [en] at hS
  have hh := stX_1 hS
  rw [swc_109] at hh
  have hat := KS_at hK
  have hat2 := KS_at (KS_pop hK)
  have hlr : (r.length : Int) ≤ 56 := by simp only [List.length_cons] at hl; omega
  have bb : 31 ≤ x.1 → BV (B r.length) ∧ BV (B (r.length + 1)) := fun h => ⟨hK.2.2.1.1 (h31 h).2, by have := hK.2.1.1 (h31 h).1; rw [lc] at this; exact this⟩
  rw [lc, ← Int.add_assoc] at hat
  have o13 := w13 hx
  unfold ES1
  rw [lc, lc, lc, ← Int.add_assoc, ← Int.add_assoc, en, show ([oX x.1].length : Int) = lnX (oX x.1) by
    have : oX x.1 ≠ 9 ∧ oX x.1 ≠ 0 ∧ oX x.1 ≠ 7 ∧ oX x.1 ≠ 8 := by unfold oX; (repeat' split) <;> omega
    unfold lnX; rw [if_neg this.1, if_neg this.2.1, if_neg this.2.2.1, if_neg this.2.2.2]; rfl]
  have pp : ∀ (V : vv_) (Qt : qt_) (K : Int → mm_ → Prop), K (B (r.length + 1)) (exX M A (p + r.length + 1)) → Tr_ wd0 pg0 2 18 [.inr (.inr 0)] (exX M A (p + r.length + 1 + 1)) (ri_ K) Qt := fun V Qt K g => by
    have x18 := x_18 (M := M) (A := A) (n := p + r.length + 1 + 1) (by (clear hx h31 hK hl hc hC hS h12 hk en hh hat hat2 bb o13 g; omega))
    rw [show p + (r.length : Int) + 1 + 1 - 1 = p + r.length + 1 by (clear hx h31 hK hl hp hc hC hS h12 hk en hh hat hat2 hlr bb o13 g x18; lia), hat] at x18
    exact Ex_le (d := 1) (by decide) x18 _ _ (ri_i g)
  have pp2 : ∀ (V : vv_) (Qt : qt_) (K : Int → mm_ → Prop), K (B r.length) (exX M A (p + r.length)) → Tr_ wd0 pg0 2 18 [.inr (.inr 0)] (exX M A (p + r.length + 1)) (ri_ K) Qt := fun V Qt K g => by
    have x18 := x_18 (M := M) (A := A) (n := p + r.length + 1) (by (clear hx h31 hK hl hc hC hS h12 hk en hh hat hat2 bb o13 pp g; omega))
    rw [show p + (r.length : Int) + 1 - 1 = p + r.length by (clear hx h31 hK hl hp hc hC hS h12 hk en hh hat hat2 hlr bb o13 pp g x18; lia), hat2] at x18
    exact Ex_le (d := 1) (by decide) x18 _ _ (ri_i g)
  have main : ∀ (x1 : Int) (V : vv_) (Qr : qr_) (Qt : qt_), Cl_ wd0 (Tr_ wd0 pg0 2) V Qr Qt m_15 → Wk_ V → Tr_ wd0 pg0 2 20 [.inr (.inr 0), .inl (oX x.1), .inl (B r.length), .inl (B (r.length + 1))] (exX M A (p + r.length)) (ri_ fun v20 M27 => Tr_ wd0 pg0 2 16 [.inr (.inr 0), .inl v20] M27 (rv_ fun M28 => V 365 [rr 0, ii x1, rr 109, ii c, ii (oX x.1), none] [] M28) Qt) Qt → V 10 [rr 0, ii x1, rr 109, ii c, none, none] [] (exX M A (p + r.length + 1 + 1)) := fun x1 V Qr Qt hV hW g => b_15_10 (Tr_mono _) hV hW _ _ _ ⟨by omega, by
    rw [exX_r (r := 109) (by decide) (by decide), hh]
    have o : oX x.1 = 10 ∨ oX x.1 = 11 ∨ oX x.1 = 12 ∨ oX x.1 = 13 ∨ oX x.1 = 14 ∨ (17 ≤ oX x.1 ∧ oX x.1 ≤ 24) := by unfold oX; (repeat' split) <;> omega
    have g2 := pp V Qt (fun v18 M25 => Tr_ wd0 pg0 2 18 [.inr (.inr 0)] M25 (ri_ fun v19 M26 => Tr_ wd0 pg0 2 20 [.inr (.inr 0), .inl (oX x.1), .inl v19, .inl v18] M26 (ri_ fun v20 M27 => Tr_ wd0 pg0 2 16 [.inr (.inr 0), .inl v20] M27 (rv_ fun M28 => V 365 [rr 0, ii x1, rr 109, ii c, ii (oX x.1), none] [] M28) Qt) Qt) Qt) (pp2 V Qt (fun v19 M26 => Tr_ wd0 pg0 2 20 [.inr (.inr 0), .inl (oX x.1), .inl v19, .inl (B (r.length + 1))] M26 (ri_ fun v20 M27 => Tr_ wd0 pg0 2 16 [.inr (.inr 0), .inl v20] M27 (rv_ fun M28 => V 365 [rr 0, ii x1, rr 109, ii c, ii (oX x.1), none] [] M28) Qt) Qt) g)
    generalize oX x.1 = y at *
    rw [if_pos (by omega), if_neg (by (clear hx h31 hK hl hp hc hC h12 hk hat hat2 hlr bb o13 pp pp2 hV hW hS en hh g g2; omega)), if_neg (by omega), if_neg (by omega), if_neg (by omega), if_neg (by (clear hx h31 hK hl hp hc hC h12 hk hat hat2 hlr bb o13 pp pp2 hV hW hS en hh g g2; omega)), if_neg (by (clear hx h31 hK hl hp hc hC h12 hk hat hat2 hlr bb o13 pp pp2 hV hW hS en hh g g2; omega)), if_neg (by (clear hx h31 hK hl hp hc hC h12 hk hat hat2 hlr bb o13 pp pp2 hV hW hS en hh g g2; omega)), if_neg (by (clear hx h31 hK hl hp hc hC h12 hk hat hat2 hlr bb o13 pp pp2 hV hW hS en hh g g2; omega)), if_neg (by omega), if_neg (by (clear hx h31 hK hl hp hc hC h12 hk hat hat2 hlr bb o13 pp pp2 hV hW hS en hh g g2; omega))]
    rcases o with o | o | o | o | o | o
    · rw [if_pos o]; exact g2
    · rw [if_neg (by (clear hx h31 hK hl hp hc hC h12 hk hat hat2 hlr bb o13 pp pp2 hV hW hS en hh g g2; lia)), if_pos o]; exact g2
    · rw [if_neg (by (clear hx h31 hK hl hp hc hC h12 hk hat hat2 hlr bb o13 pp pp2 hV hW hS en hh g g2; lia)), if_neg (by (clear hx h31 hK hl hp hc hC h12 hk hat hat2 hlr bb o13 pp pp2 hV hW hS en hh g g2; lia)), if_pos o]; exact g2
    · rw [if_neg (by (clear hx h31 hK hl hp hc hC h12 hk hat hat2 hlr bb o13 pp pp2 hV hW hS en hh g g2; lia)), if_neg (by (clear hx h31 hK hl hp hc hC h12 hk hat hat2 hlr bb o13 pp pp2 hV hW hS en hh g g2; lia)), if_neg (by (clear hx h31 hK hl hp hc hC h12 hk hat hat2 hlr bb o13 pp pp2 hV hW hS en hh g g2; omega)), if_pos o]; exact g2
    · rw [if_neg (by (clear hx h31 hK hl hp hc hC h12 hk hat hat2 hlr bb o13 pp pp2 hV hW hS en hh g g2; lia)), if_neg (by (clear hx h31 hK hl hp hc hC h12 hk hat hat2 hlr bb o13 pp pp2 hV hW hS en hh g g2; lia)), if_neg (by (clear hx h31 hK hl hp hc hC h12 hk hat hat2 hlr bb o13 pp pp2 hV hW hS en hh g g2; lia)), if_neg (by (clear hx h31 hK hl hp hc hC h12 hk hat hat2 hlr bb o13 pp pp2 hV hW hS en hh g g2; lia)), if_pos o]; exact g2
    · rw [if_neg (by omega), if_neg (by (clear hx h31 hK hl hp hc hC h12 hk hat hat2 hlr bb o13 pp pp2 hV hW hS en hh g g2; omega)), if_neg (by (clear hx h31 hK hl hp hc hC h12 hk hat hat2 hlr bb o13 pp pp2 hV hW hS en hh g g2; omega)), if_neg (by (clear hx h31 hK hl hp hc hC h12 hk hat hat2 hlr bb o13 pp pp2 hV hW hS en hh g g2; lia)), if_neg (by (clear hx h31 hK hl hp hc hC h12 hk hat hat2 hlr bb o13 pp pp2 hV hW hS en hh g g2; lia)), if_neg (by (clear hx h31 hK hl hp hc hC h12 hk hat hat2 hlr bb o13 pp pp2 hV hW hS en hh g g2; omega)), if_neg (by (clear hx h31 hK hl hp hc hC h12 hk hat hat2 hlr bb o13 pp pp2 hV hW hS en hh g g2; omega))]; exact g2⟩
  have mainQ : ∀ (Qr : qr_) (Qt : qt_), Tr_ wd0 pg0 2 343 [.inr (.inr 6), .inl x.1, .inl (B r.length), .inl (B (r.length + 1))] (exQ N B (r.length + 1) 0) (rv_ fun M2 => Qr [] M2) Qt → Tr_ wd0 pg0 3 340 [.inr (.inr 6), .inl k, .inl x.1, .inl x.2] (exQ N B (r.length + 1 + 1) 0) Qr Qt := fun Qr Qt g => t_340 fun V hV hW => b_340_0 (Tr_mono _) hV hW _ _ _ _ (Ex_le (d := 1) (by decide) (q_323 (by omega)) _ _ (ri_i (by
    rw [if_neg (by (clear h31 hK hl hp hc hC hS h12 hk en hh hat hat2 hlr bb o13 pp pp2 main g hV hW; omega)), if_neg (by omega), if_neg (by omega), if_neg (by (clear h31 hK hl hp hc hC hS h12 hk en hh hat hat2 hlr bb o13 pp pp2 main g hV hW; lia)), if_neg (by omega), if_neg (by (clear h31 hK hl hp hc hC hS h12 hk en hh hat hat2 hlr bb o13 pp pp2 main g hV hW; omega)), if_neg (by omega), if_neg (by (clear h31 hK hl hp hc hC hS h12 hk en hh hat hat2 hlr bb o13 pp pp2 main g hV hW; lia)), if_neg (by omega), if_neg (by omega), if_neg (by (clear h31 hK hl hp hc hC hS h12 hk en hh hat hat2 hlr bb o13 pp pp2 main g hV hW; omega)), if_neg (by omega), if_neg (by (clear h31 hK hl hp hc hC hS h12 hk en hh hat hat2 hlr bb o13 pp pp2 main g hV hW; omega)), if_neg (by omega), exQ_148, exQ_243, w32_id (x := (r.length : Int) + 1 + 1 - 1) (by (clear hx h31 hK hl hp hc hC hS h12 hk en hh hat hat2 bb o13 pp pp2 main g hV hW; lia)) (by (clear hx h31 hK hl hp hc hC hS h12 hk en hh hat hat2 bb o13 pp pp2 main g hV hW; omega)), show (r.length : Int) + 1 + 1 - 1 = r.length + 1 by omega, w32_id (x := (r.length : Int) + 1 - 1) (by (clear hx h31 hK hl hp hc hC hS h12 hk en hh hat hat2 bb o13 pp pp2 main g hV hW; omega)) (by omega), show (r.length : Int) + 1 - 1 = r.length by (clear hx h31 hK hl hp hc hC hS h12 hk en hh hat hat2 hlr bb o13 pp pp2 main g hV hW; lia), exQ_o]
    exact ⟨by (clear hx h31 hK hl hp hc hC hS h12 hk en hh hat hat2 bb o13 pp pp2 main g hV hW; omega), by (clear hx h31 hK hl hp hc hC hS h12 hk en hh hat hat2 bb o13 pp pp2 main g hV hW; omega), g⟩)))
  by_cases ce : (x.1 = 23 ∨ x.1 = 24) ∧ B (r.length + 1) = 0
  · exact .inr ⟨2, A, p + r.length, B, r.length + 1, .inr rfl, by (clear hx h31 hK hl hp hc hC hS h12 hk en hh hat hat2 bb o13 pp pp2 main mainQ ce; omega), fun x1 V Qr Qt hV hW g => main x1 V Qr Qt hV hW (x_20e ce.1 ce.2 _ _ g), fun Qr Qt g => mainQ Qr Qt (q_343e ce.1 ce.2 _ _ (rv_i g))⟩
  · refine .inl ⟨su_ A (p + r.length) (bin x.1 (B r.length) (B (r.length + 1))), su_ B r.length (bin x.1 (B r.length) (B (r.length + 1))), fun x1 V Qr Qt hV hW g => main x1 V Qr Qt hV hW (x_20 hx (fun h => fun e => ce ⟨h, e⟩) bb _ _ (ri_i (Ex_le (d := 1) (by decide) (x_16 (by omega)) _ _ (rv_i (x_365 hV hW hc g))))), fun Qr Qt g => mainQ Qr Qt (q_343 hx (fun h => fun e => ce ⟨h, e⟩) (by (clear hx h31 hK hl hp hc hC hS h12 hk en hh hat hat2 bb o13 pp pp2 main mainQ ce g; omega)) _ _ (rv_i (by rw [show (r.length : Int) + 1 - 1 = r.length by omega]; exact g))), KS_push (KS_pop (KS_pop hK)) ⟨fun e => ?_, bin_r hK.2.2.1.2 hx⟩, fun j hj => su_ne (by (clear hx h31 hK hl hp hc hC hS h12 hk en hh hat hat2 bb o13 pp pp2 main mainQ ce; lia))⟩
    exact (q_344 (M := M) (by by_cases c : x.1 < 25; rw [if_pos c] at e; exact absurd e (by decide); omega)).2
end E2a
end T346_e2
