section T310_qw
/-! warnings: Q's walk (316), types -/
def SNT (N : mm_) (s : Int) : Prop := (∃ k, (0 ≤ k ∧ k < N 6 75) ∧ N 203 k = 2 ∧ N 205 k = s) ∨ ∃ r, (0 ≤ r ∧ r < N 6 18) ∧ N 160 r = -1 ∧ bt_ (N 164 r) s
def HRD (N : mm_) (s : Int) : Prop := (∃ k i, (0 ≤ k ∧ k < N 6 62) ∧ N 193 k = 0 ∧ (N 198 k ≤ i ∧ i < N 199 k) ∧ N 200 i = s) ∨ ∃ r, (0 ≤ r ∧ r < N 6 18) ∧ N 161 r = -1 ∧ bt_ (N 164 r) s
def MAD (N : mm_) (T : Int) : Prop := 0 < N 168 T ∨ ∃ k, (0 ≤ k ∧ k < N 6 75) ∧ N 203 k = 5 ∧ N 205 k = T
def JND (N : mm_) (T l : Int) : Prop := ∃ me, InT N T me ∧ bt_ (N 214 me) l
def WQF (N0 N : mm_) (R : List (Int × Int)) : Prop := (∀ k : Nat, k ∉ [6, 235, 236, 237, 238] → N k = N0 k) ∧ (∀ i : Int, i ≠ 120 → N 6 i = N0 6 i) ∧ N 6 120 = (R.length : Int) ∧ WAr (N 235) (N 236) R
/-- the list of the types' warnings, of the signals' -/
noncomputable def tyL (N : mm_) (ns nl : Int → Nat) (n : Nat) : List (Int × Int) := tyW (CMT N) (JND N) (MAD N) (fun T k => N 186 (12 * T + k)) (fun T k => N 187 (10 * T + k)) (fun T => N 167 T) ns nl n
noncomputable def sgL9 (N : mm_) (n : Nat) : List (Int × Int) := sgW (SNT N) (HRD N) (fun s => N 155 s) n
section QWa
variable {d : Nat} {Kv : mm_ → Prop} {Qt : qt_} {V : vv_} {N N0 : mm_} {T : Int} {x2 x3 : Int}
theorem or01 [Inhabited gh_] {x y : Int} (hx : x = 0 ∨ x = 1) (hy : y = 0 ∨ y = 1) : or_ x y = (if x = 1 ∨ y = 1 then 1 else 0) := by
  rcases hx with e | e <;> rcases hy with e' | e' <;> rw [e, e'] <;> decide
theorem q_w1 [Inhabited gh_] {R : List (Int × Int)} {P : Prop} {kd p : Int} (h : WQF N0 N R) (hl : R.length < 400) (hP : ¬ P) (hK : ∀ N', WQF N0 N' (inA (ifP P [(kd, p)]) R) → N' 237 = N 237 → Kv N') : Tr_ wd0 pg0 (d + 1) 318 [.inr (.inr 6), .inl kd, .inl p] N (rv_ Kv) Qt := by
  obtain ⟨a1, a2, a3, a4⟩ := h
  refine q_318 a3 hl a4 (fun N' f1 f2 f3 f4 => hK N' ?_ (f1 237 (by decide)))
  rw [ifP_f hP]
  exact ⟨fun k hk => (f1 k (fun e => hk (by simp only [List.mem_cons, List.not_mem_nil, or_false] at e ⊢; omega))).trans (a1 k hk), fun i hi => (f2 i hi).trans (a2 i hi), f3, f4⟩
/-- labels -/
theorem l_193 [Inhabited gh_] (hV : Cl_ wd0 (Tr_ wd0 pg0 (d + 1)) V (rv_ Kv) Qt m_316) (hW : Wk_ V) {n : Nat} (hT : 0 ≤ T ∧ T < 6) (hn : N0 175 T = n) (hn1 : n ≤ 10) (h3 : 0 ≤ x3 ∧ x3 < 1024) (hJ : ∀ l, 0 ≤ l → l < (n : Int) → (bt_ x3 l ↔ JND N0 T l)) {R : List (Int × Int)} (hl : R.length + n < 400)
    (hK : ∀ N', WQF N0 N' (inA (rwW 5 (JND N0 T) (fun k => N0 187 (10 * T + k)) n) R) → V 7 [rr 6, ii (T + 1), none, none, none, none] [] N') : ∀ (j k : Nat) (N : mm_), k + j = n → WQF N0 N (inA (rwW 5 (JND N0 T) (fun k => N0 187 (10 * T + k)) k) R) → V 193 [rr 6, ii T, ii x2, ii x3, ii (k : Int), none] [] N
  | j, k, N, hj, h => by
    refine b_316_193 (Tr_mono _) hV hW _ _ _ _ _ ⟨hT, ?_⟩
    rw [h.1 175 (by decide), hn, h.1 187 (by decide)]
    by_cases c : (k : Int) < n
    · rw [if_pos c]
      cases j with
      | zero => omega
      | succ j =>
        have ea : inA (rwW 5 (JND N0 T) (fun k => N0 187 (10 * T + k)) (k + 1)) R = inA (ifP (JND N0 T k) [(5, N0 187 (10 * T + k))]) (inA (rwW 5 (JND N0 T) (fun k => N0 187 (10 * T + k)) k) R) := by show inA (rwW 5 (JND N0 T) (fun k => N0 187 (10 * T + k)) k ++ _) R = _; rw [inA_app]
        have an := (an_sr (c := x3) (s := k) h3.1 (by omega) (by omega) (by omega)).1
        rw [w32_id (x := 10 * T) (by omega) (by omega), w32_id (x := 10 * T + (k : Int)) (by omega) (by omega), w32_id (x := (k : Int) + 1) (by omega) (by omega)]
        have hj1 := hJ k (by omega) c
        have hlen := rwW_len (k0 := 5) (C := JND N0 T) (p := fun k => N0 187 (10 * T + k)) k
        by_cases cj : an_ (sr_ x3 k) 1 = 0
        · rw [if_pos cj]
          refine ⟨by omega, q_w1 (P := JND N0 T k) h (by rw [inA_len]; omega) (fun e => (an.1 cj) (hj1.2 e)) (fun N' h' _ => ?_)⟩
          exact l_193 hV hW hT hn hn1 h3 hJ hl hK j (k + 1) N' (by omega) (by rw [ea]; exact h')
        · rw [if_neg cj]
          have w : JND N0 T k := hj1.1 (Classical.byContradiction fun e => cj (an.2 e))
          exact l_193 hV hW hT hn hn1 h3 hJ hl hK j (k + 1) N (by omega) (by rw [ea, ifP_t w]; exact h)
    · rw [if_neg c, w32_id (x := T + 1) (by omega) (by omega)]
      have ek : k = n := by omega
      rw [ek] at h; exact hK N h
/-- joins, and whether it is made -/
theorem l_135 [Inhabited gh_] (hV : Cl_ wd0 (Tr_ wd0 pg0 (d + 1)) V (rv_ Kv) Qt m_316) (hW : Wk_ V) {n : Nat} (b : BTT N0 T n) (hm : (x2 = 0 ∨ x2 = 1) ∧ (x2 = 1 ↔ MAD N0 T)) {R : List (Int × Int)} (hl : R.length < 400) (h : WQF N0 N R)
    (hK : ∀ x3 N', (0 ≤ x3 ∧ x3 < 1024) → (∀ l, 0 ≤ l → (bt_ x3 l ↔ JND N0 T l)) → WQF N0 N' (inA (ifP (MAD N0 T) [(4, N0 167 T)]) R) → V 193 [rr 6, ii T, ii x2, ii x3, ii 0, none] [] N') : ∀ (j : Nat) (k x3 : Int), (n : Int) - k ≤ (j : Int) → 0 ≤ k → k ≤ n → (0 ≤ x3 ∧ x3 < 1024) → (∀ l, 0 ≤ l → (bt_ x3 l ↔ ∃ me, InT N0 T me ∧ me < k ∧ bt_ (N0 214 me) l)) → V 135 [rr 6, ii T, ii x2, ii x3, ii k, none] [] N
  | j, k, x3, hj, k0, kn, h3, hb => by
    obtain ⟨⟨b1, b2, bT0, bT1⟩, b3, b4, b5⟩ := id b
    refine b_316_135 (Tr_mono _) hV hW _ _ _ _ _ ?_
    rw [h.2.1 76 (by decide), b1, h.1 211 (by decide), h.1 214 (by decide), h.1 167 (by decide)]
    by_cases c : k < (n : Int)
    · rw [if_pos c, w32_id (x := k + 1) (by omega) (by omega)]
      have nxt : ∀ x, (0 ≤ x ∧ x < 1024) → (∀ l, 0 ≤ l → (bt_ x l ↔ ∃ me, InT N0 T me ∧ me < k + 1 ∧ bt_ (N0 214 me) l)) → V 135 [rr 6, ii T, ii x2, ii x, ii (k + 1), none] [] N := fun x hx hxb => by
        cases j with
        | zero => omega
        | succ j => exact l_135 hV hW b hm hl h hK j (k + 1) x (by omega) (by omega) (by omega) hx hxb
      refine ⟨by omega, ?_⟩
      by_cases cT : N0 211 k = T
      · rw [if_pos cT]
        have hk : InT N0 T k := ⟨by rw [b1]; exact ⟨k0, c⟩, cT⟩
        obtain ⟨o1, o2⟩ := or_b2 (m := 10) (by decide) (x := x3) (y := N0 214 k) h3 (b3 k hk).2.1
        refine ⟨by omega, nxt _ o1 (fun l l0 => ?_)⟩
        rw [o2 l l0, hb l l0]
        constructor
        · rintro (⟨me, e1, e2, e3⟩ | e)
          · exact ⟨me, e1, by omega, e3⟩
          · exact ⟨k, hk, by omega, e⟩
        · rintro ⟨me, e1, e2, e3⟩
          by_cases cm : me = k
          · rw [cm] at e3; exact .inr e3
          · exact .inl ⟨me, e1, by omega, e3⟩
      · rw [if_neg cT]
        obtain ⟨o1, o2⟩ := or_b2 (m := 10) (by decide) (x := x3) (y := 0) h3 (by decide)
        refine nxt _ o1 (fun l l0 => ?_)
        rw [o2 l l0, hb l l0]
        constructor
        · rintro (⟨me, e1, e2, e3⟩ | e)
          · exact ⟨me, e1, by omega, e3⟩
          · exact absurd e bt_0
        · rintro ⟨me, e1, e2, e3⟩
          by_cases cm : me = k
          · rw [cm] at e1; exact absurd e1.2 cT
          · exact .inl ⟨me, e1, by omega, e3⟩
    · rw [if_neg c]
      have jn : ∀ l, 0 ≤ l → (bt_ x3 l ↔ JND N0 T l) := fun l l0 => by
        rw [hb l l0]
        unfold JND
        constructor
        · rintro ⟨me, e1, _, e3⟩; exact ⟨me, e1, e3⟩
        · rintro ⟨me, e1, e3⟩
          refine ⟨me, e1, ?_, e3⟩
          have := e1.1
          rw [b1] at this; omega
      by_cases c2 : x2 = 0
      · rw [if_pos c2]
        exact ⟨⟨bT0, bT1⟩, q_w1 (P := MAD N0 T) h hl (fun e => by have := hm.2.2 e; omega) (fun N' h' _ => hK x3 N' h3 jn h')⟩
      · rw [if_neg c2]
        have w : MAD N0 T := hm.2.1 (by omega)
        exact hK x3 N h3 jn (by rw [ifP_t w]; exact h)
theorem l_87 [Inhabited gh_] (hV : Cl_ wd0 (Tr_ wd0 pg0 (d + 1)) V (rv_ Kv) Qt m_316) (hW : Wk_ V) {n : Nat} {R : List (Int × Int)} (h : WQF N0 N R) (hn : N0 6 75 = n) (hn1 : n ≤ 1300)
    (hK : ∀ x2, (x2 = 0 ∨ x2 = 1) → (x2 = 1 ↔ MAD N0 T) → V 135 [rr 6, ii T, ii x2, ii 0, ii 0, none] [] N) : ∀ (j : Nat) (k x2 : Int), (n : Int) - k ≤ (j : Int) → 0 ≤ k → k ≤ n → (x2 = 0 ∨ x2 = 1) → (x2 = 1 ↔ (0 < N0 168 T ∨ ∃ i, (0 ≤ i ∧ i < k) ∧ N0 203 i = 5 ∧ N0 205 i = T)) → V 87 [rr 6, ii T, ii x2, ii 0, ii k, none] [] N
  | j, k, x2, hj, k0, kn, h2, hb => by
    refine b_316_87 (Tr_mono _) hV hW _ _ _ _ _ ?_
    rw [h.2.1 75 (by decide), hn, h.1 203 (by decide), h.1 205 (by decide)]
    by_cases c : k < (n : Int)
    · rw [if_pos c, w32_id (x := k + 1) (by omega) (by omega)]
      have nxt : ∀ x, (x = 0 ∨ x = 1) → (x = 1 ↔ (0 < N0 168 T ∨ ∃ i, (0 ≤ i ∧ i < k + 1) ∧ N0 203 i = 5 ∧ N0 205 i = T)) → V 87 [rr 6, ii T, ii x, ii 0, ii (k + 1), none] [] N := fun x hx hxb => by
        cases j with
        | zero => omega
        | succ j => exact l_87 hV hW h hn hn1 hK j (k + 1) x (by omega) (by omega) (by omega) hx hxb
      have no : ¬ (N0 203 k = 5 ∧ N0 205 k = T) → V 87 [rr 6, ii T, ii (or_ x2 0), ii 0, ii (k + 1), none] [] N := fun hno => by
        have e : or_ x2 0 = x2 := by rcases h2 with e | e <;> rw [e] <;> decide
        rw [e]
        refine nxt x2 h2 (hb.trans ⟨fun g => g.imp id fun ⟨i, hi, e⟩ => ⟨i, by omega, e⟩, fun g => g.imp id fun ⟨i, hi, e⟩ => ⟨i, ?_, e⟩⟩)
        by_cases ci : i = k
        · rw [ci] at e; exact absurd e hno
        · omega
      refine ⟨by omega, ?_⟩
      by_cases c1 : N0 203 k = 5
      · rw [if_pos c1]
        refine ⟨by omega, ?_⟩
        by_cases c2 : N0 205 k = T
        · rw [if_pos c2]
          have e : or_ x2 1 = 1 := by rcases h2 with e | e <;> rw [e] <;> decide
          rw [e]
          exact nxt 1 (.inr rfl) ⟨fun _ => .inr ⟨k, by omega, c1, c2⟩, fun _ => rfl⟩
        · rw [if_neg c2]; exact no (fun e => c2 e.2)
      · rw [if_neg c1]; exact no (fun e => c1 e.1)
    · rw [if_neg c]
      have ek : k = n := by omega
      refine hK x2 h2 (hb.trans ?_)
      unfold MAD
      rw [hn, ek]
end QWa
end T310_qw
section T311_qw
/-! warnings: Q's walk (316), types and signals -/
section QWb
variable {d : Nat} {Kv : mm_ → Prop} {Qt : qt_} {V : vv_} {N N0 : mm_} {T : Int} {x2 x3 : Int}
theorem WQF_c [Inhabited gh_] {N1 : mm_} {R : List (Int × Int)} (h : WQF N0 N R) (h1 : ∀ k : Nat, k ≠ 237 → k ≠ 238 → N1 k = N k) : WQF N0 N1 R := ⟨fun k hk => by rw [h1 k (fun e => hk (by rw [e]; decide)) (fun e => hk (by rw [e]; decide))]; exact h.1 k hk, fun i hi => by rw [h1 6 (by decide) (by decide)]; exact h.2.1 i hi, by rw [h1 6 (by decide) (by decide)]; exact h.2.2.1, by rw [h1 235 (by decide) (by decide), h1 236 (by decide) (by decide)]; exact h.2.2.2⟩
/-- states -/
theorem l_22 [Inhabited gh_] (hV : Cl_ wd0 (Tr_ wd0 pg0 (d + 1)) V (rv_ Kv) Qt m_316) (hW : Wk_ V) {n : Nat} {w : Int} (hT : 0 ≤ T ∧ T < 6) (hn : N0 174 T = n) (hn1 : n ≤ 12) (hw : 0 ≤ w ∧ w < 4096) (hC : ∀ s, 0 ≤ s → (bt_ w s ↔ CMT N0 T s)) {R : List (Int × Int)} (hl : R.length + n < 400)
    (hK : ∀ N', WQF N0 N' (inA (rwW 1 (CMT N0 T) (fun k => N0 186 (12 * T + k)) n) R) → V 87 [rr 6, ii T, ii (if N0 168 T ≤ 0 then 0 else 1), ii 0, ii 0, none] [] N') : ∀ (j k : Nat) (N : mm_), k + j = n → N 237 T = w → WQF N0 N (inA (rwW 1 (CMT N0 T) (fun k => N0 186 (12 * T + k)) k) R) → V 22 [rr 6, ii T, ii (k : Int), none, none, none] [] N
  | j, k, N, hj, hN, h => by
    refine b_316_22 (Tr_mono _) hV hW _ _ _ ⟨hT, ?_⟩
    rw [h.1 174 (by decide), hn, h.1 186 (by decide), h.1 168 (by decide), hN]
    by_cases c : (k : Int) < n
    · rw [if_pos c]
      cases j with
      | zero => omega
      | succ j =>
        have ea : inA (rwW 1 (CMT N0 T) (fun k => N0 186 (12 * T + k)) (k + 1)) R = inA (ifP (CMT N0 T k) [(1, N0 186 (12 * T + k))]) (inA (rwW 1 (CMT N0 T) (fun k => N0 186 (12 * T + k)) k) R) := by show inA (rwW 1 (CMT N0 T) (fun k => N0 186 (12 * T + k)) k ++ _) R = _; rw [inA_app]
        have an := (an_sr (c := w) (s := k) hw.1 (by omega) (by omega) (by omega)).1
        rw [w32_id (x := 12 * T) (by omega) (by omega), w32_id (x := 12 * T + (k : Int)) (by omega) (by omega), w32_id (x := (k : Int) + 1) (by omega) (by omega)]
        have hj1 := hC k (by omega)
        have hlen := rwW_len (k0 := 1) (C := CMT N0 T) (p := fun k => N0 186 (12 * T + k)) k
        refine ⟨hT, ?_⟩
        by_cases cj : an_ (sr_ w k) 1 = 0
        · rw [if_pos cj]
          refine ⟨by omega, q_w1 (P := CMT N0 T k) h (by rw [inA_len]; omega) (fun e => (an.1 cj) (hj1.2 e)) (fun N' h' e' => ?_)⟩
          exact l_22 hV hW hT hn hn1 hw hC hl hK j (k + 1) N' (by omega) (by rw [e']; exact hN) (by rw [ea]; exact h')
        · rw [if_neg cj]
          have w' : CMT N0 T k := hj1.1 (Classical.byContradiction fun e => cj (an.2 e))
          exact l_22 hV hW hT hn hn1 hw hC hl hK j (k + 1) N (by omega) hN (by rw [ea, ifP_t w']; exact h)
    · rw [if_neg c]
      have ek : k = n := by omega
      rw [ek] at h
      have := hK N h
      refine ⟨hT, ?_⟩
      by_cases c8 : N0 168 T ≤ 0
      · rw [if_pos c8] at this ⊢; exact this
      · rw [if_neg c8] at this ⊢; exact this
/-- all types -/
theorem l_7 [Inhabited gh_] (hV : Cl_ wd0 (Tr_ wd0 pg0 (d + 1)) V (rv_ Kv) Qt m_316) (hW : Wk_ V) {n nc nt : Nat} {ns nl : Int → Nat} (hn : N0 6 19 = n) (hn1 : n ≤ 6) (hc : N0 6 75 = nc ∧ nc ≤ 1300) (hnl : ∀ T, 0 ≤ T → T < (n : Int) → (N0 174 T = ns T ∧ ns T ≤ 12) ∧ (N0 175 T = nl T ∧ nl T ≤ 10)) (hb : ∀ T, 0 ≤ T → T < (n : Int) → BTT N0 T nt)
    (hK : ∀ N', WQF N0 N' (inA (tyL N0 ns nl n) []) → V 244 [rr 6, ii 0, none, none, none, none] [] N') : ∀ (j k : Nat) (N : mm_), k + j = n → WQF N0 N (inA (tyL N0 ns nl k) []) → V 7 [rr 6, ii (k : Int), none, none, none, none] [] N
  | j, k, N, hj, h => by
    refine b_316_7 (Tr_mono _) hV hW _ _ ?_
    rw [h.2.1 19 (by decide), hn]
    by_cases c : (k : Int) < n
    · rw [if_pos c]
      cases j with
      | zero => omega
      | succ j =>
        have hlen := tyW_len (C := CMT N0) (J := JND N0) (Md := MAD N0) (p12 := fun T k => N0 186 (12 * T + k)) (p10 := fun T k => N0 187 (10 * T + k)) (pT := fun T => N0 167 T) (ns := ns) (nl := nl) k (fun T hT => ⟨(hnl T (by omega) (by omega)).1.2, (hnl T (by omega) (by omega)).2.2⟩)
        have hlen' : (tyL N0 ns nl k).length ≤ 23 * k := hlen
        obtain ⟨⟨s1, s2⟩, l1, l2⟩ := hnl k (by omega) c
        have b := hb k (by omega) c
        have hI : ∀ (A : mm_), (∀ q : Nat, q ∉ [6, 235, 236, 237, 238] → A q = N0 q) → (∀ i : Int, i ≠ 120 → A 6 i = N0 6 i) → BTT A k nt ∧ (∀ s, CMT A k s ↔ CMT N0 k s) := fun A hA h6 => by
          have i1 : ∀ me, InT A k me ↔ InT N0 k me := fun me => by unfold InT; rw [h6 76 (by decide), hA 211 (by decide)]
          have e2 : ∀ P C, CM2 A k P C ↔ CM2 N0 k P C := fun P C => by
            unfold CM2 InT
            rw [h6 76 (by decide), hA 211 (by decide), hA 215 (by decide), hA 175 (by decide), hA 214 (by decide), hA 189 (by decide), hA 213 (by decide), hA 212 (by decide)]
          refine ⟨?_, fun s => ⟨fun g P C hc => g P C ((e2 P C).2 hc), fun g P C hc => g P C ((e2 P C).1 hc)⟩⟩
          unfold BTT InT
          rw [h6 76 (by decide), hA 211 (by decide), hA 213 (by decide), hA 214 (by decide), hA 215 (by decide), hA 212 (by decide), hA 175 (by decide), hA 189 (by decide)]
          exact b
        obtain ⟨bN, cN⟩ := hI N h.1 h.2.1
        refine q_317 bN (fun N1 f1 f2 f3 f4 => ?_)
        have h1 : WQF N0 N1 (inA (tyL N0 ns nl k) []) := WQF_c h f1
        have r1 := rwW_len (k0 := 1) (C := CMT N0 k) (p := fun i => N0 186 (12 * (k : Int) + i)) (ns k)
        refine l_22 hV hW (by omega) s1 s2 f3 (fun s s0 => (f4 s s0).trans (cN s)) (R := inA (tyL N0 ns nl k) []) (by rw [inA_len]; simp; omega) (fun N2 h2 => ?_) (ns k) 0 N1 (by omega) rfl h1
        refine l_87 hV hW h2 hc.1 hc.2 (fun x2 hx hm => ?_) nc 0 _ (by omega) (Int.le_refl _) (by omega) (by split <;> simp) ?_
        · refine l_135 hV hW b ⟨hx, hm⟩ (by rw [inA_len, inA_len]; simp; omega) h2 (fun x3 N3 h3 hj3 hw3 => ?_) nt 0 0 (by omega) (Int.le_refl _) (by omega) (by decide) (fun l l0 => ⟨fun e => absurd e bt_0, fun ⟨me, e1, e2, _⟩ => by have := e1.1; omega⟩)
          have hu := @ifP_len _ (MAD N0 k) (4, N0 167 k)
          refine l_193 hV hW (by omega) l1 l2 h3 (fun l l0 _ => hj3 l l0) (R := inA (ifP (MAD N0 k) [(4, N0 167 k)]) (inA (rwW 1 (CMT N0 k) (fun i => N0 186 (12 * (k : Int) + i)) (ns k)) (inA (tyL N0 ns nl k) []))) (by rw [inA_len, inA_len, inA_len]; simp; omega) (fun N4 h4 => ?_) (nl k) 0 N3 (by omega) hw3
          refine l_7 hV hW hn hn1 hc hnl hb hK j (k + 1) N4 (by omega) ?_
          have ea : inA (tyL N0 ns nl (k + 1)) [] = inA (rwW 5 (JND N0 k) (fun i => N0 187 (10 * (k : Int) + i)) (nl k)) (inA (ifP (MAD N0 k) [(4, N0 167 k)]) (inA (rwW 1 (CMT N0 k) (fun i => N0 186 (12 * (k : Int) + i)) (ns k)) (inA (tyL N0 ns nl k) []))) := by
            show inA (tyW (CMT N0) (JND N0) (MAD N0) (fun T k => N0 186 (12 * T + k)) (fun T k => N0 187 (10 * T + k)) (fun T => N0 167 T) ns nl k ++ (rwW 1 (CMT N0 k) (fun i => N0 186 (12 * (k : Int) + i)) (ns k) ++ ifP (MAD N0 k) [(4, N0 167 k)] ++ rwW 5 (JND N0 k) (fun i => N0 187 (10 * (k : Int) + i)) (nl k))) [] = _
            rw [inA_app, inA_app, inA_app]; rfl
          rw [ea]; exact h4
        · constructor
          · intro e; left
            by_cases c8 : N0 168 k ≤ 0
            · rw [if_pos c8] at e; omega
            · omega
          · rintro (e | ⟨i, hi, _⟩)
            · rw [if_neg (by omega)]
            · omega
    · rw [if_neg c]
      have ek : k = n := by omega
      rw [ek] at h; exact hK N h
end QWb
end T311_qw
section T312_qw
/-! warnings: Q's walk (316), signals; whole -/
section QWc
variable {d : Nat} {Kv : mm_ → Prop} {Qt : qt_} {V : vv_} {N N0 : mm_} {s x2 x3 : Int} {R : List (Int × Int)}
theorem or_x0 [Inhabited gh_] {x : Int} (h : x = 0 ∨ x = 1) : or_ x 0 = x ∧ or_ x 1 = 1 := by rcases h with e | e <;> rw [e] <;> decide
/-- routes -/
theorem l_381 [Inhabited gh_] (hV : Cl_ wd0 (Tr_ wd0 pg0 (d + 1)) V (rv_ Kv) Qt m_316) (hW : Wk_ V) {n : Nat} (hs : 0 ≤ s ∧ s < 20) (hn : N0 6 18 = n) (hn1 : n ≤ 10) (hm : ∀ r, 0 ≤ r → r < (n : Int) → 0 ≤ N0 164 r ∧ N0 164 r < 1048576) (h : WQF N0 N R) (hl : R.length + 2 < 400)
    (hK : ∀ N', WQF N0 N' (inA (ifP (SNT N0 s) [(2, N0 155 s)] ++ ifP (HRD N0 s) [(3, N0 155 s)]) R) → V 244 [rr 6, ii (s + 1), none, none, none, none] [] N') : ∀ (j : Nat) (k x2 x3 : Int), (n : Int) - k ≤ (j : Int) → 0 ≤ k → k ≤ n → (x2 = 0 ∨ x2 = 1) → (x3 = 0 ∨ x3 = 1) → (x2 = 1 ↔ ((∃ k, (0 ≤ k ∧ k < N0 6 75) ∧ N0 203 k = 2 ∧ N0 205 k = s) ∨ ∃ r, (0 ≤ r ∧ r < k) ∧ N0 160 r = -1 ∧ bt_ (N0 164 r) s)) → (x3 = 1 ↔ ((∃ k i, (0 ≤ k ∧ k < N0 6 62) ∧ N0 193 k = 0 ∧ (N0 198 k ≤ i ∧ i < N0 199 k) ∧ N0 200 i = s) ∨ ∃ r, (0 ≤ r ∧ r < k) ∧ N0 161 r = -1 ∧ bt_ (N0 164 r) s)) → V 381 [rr 6, ii s, ii x2, ii x3, ii k, none] [] N
  | j, k, x2, x3, hj, k0, kn, h2, h3, u2, u3 => by
    refine b_316_381 (Tr_mono _) hV hW _ _ _ _ _ ?_
    rw [h.2.1 18 (by decide), hn, h.1 160 (by decide), h.1 164 (by decide), h.1 155 (by decide)]
    by_cases c : k < (n : Int)
    · rw [if_pos c]
      have an := (an_sr (c := N0 164 k) (s := s) (hm k k0 c).1 (by have := hm k k0 c; omega) hs.1 (by omega)).2
      have nxt : ∀ y2 y3, (y2 = 0 ∨ y2 = 1) → (y3 = 0 ∨ y3 = 1) → (y2 = 1 ↔ (x2 = 1 ∨ (N0 160 k = -1 ∧ bt_ (N0 164 k) s))) → (y3 = 1 ↔ (x3 = 1 ∨ (N0 161 k = -1 ∧ bt_ (N0 164 k) s))) → V 381 [rr 6, ii s, ii y2, ii y3, ii (k + 1), none] [] N := fun y2 y3 hy2 hy3 e2 e3 => by
        cases j with
        | zero => omega
        | succ j =>
          refine l_381 hV hW hs hn hn1 hm h hl hK j (k + 1) y2 y3 (by omega) (by omega) (by omega) hy2 hy3 ?_ ?_
          · rw [e2, u2]
            constructor
            · rintro ((g | ⟨r, hr, g⟩) | g)
              · exact .inl g
              · exact .inr ⟨r, by omega, g⟩
              · exact .inr ⟨k, by omega, g⟩
            · rintro (g | ⟨r, hr, g⟩)
              · exact .inl (.inl g)
              · by_cases cr : r = k
                · rw [cr] at g; exact .inr g
                · exact .inl (.inr ⟨r, by omega, g⟩)
          · rw [e3, u3]
            constructor
            · rintro ((g | ⟨r, hr, g⟩) | g)
              · exact .inl g
              · exact .inr ⟨r, by omega, g⟩
              · exact .inr ⟨k, by omega, g⟩
            · rintro (g | ⟨r, hr, g⟩)
              · exact .inl (.inl g)
              · by_cases cr : r = k
                · rw [cr] at g; exact .inr g
                · exact .inl (.inr ⟨r, by omega, g⟩)
      have snd : ∀ y2, (y2 = 0 ∨ y2 = 1) → (y2 = 1 ↔ (x2 = 1 ∨ (N0 160 k = -1 ∧ bt_ (N0 164 k) s))) → V 424 [rr 6, ii s, ii y2, ii x3, ii k, none] [] N := fun y2 hy2 e2 => by
        refine b_316_424 (Tr_mono _) hV hW _ _ _ _ _ ⟨by omega, ?_⟩
        rw [h.1 161 (by decide), h.1 164 (by decide), w32_id (x := k + 1) (by omega) (by omega), (or_x0 h3).1, (or_x0 h3).2]
        by_cases c1 : N0 161 k = -1
        · rw [if_pos c1]
          refine ⟨by omega, ?_⟩
          by_cases ca : an_ (sr_ (N0 164 k) s) 1 = 1
          · rw [if_pos ca]; exact nxt y2 1 hy2 (.inr rfl) e2 ⟨fun _ => .inr ⟨c1, an.1 ca⟩, fun _ => rfl⟩
          · rw [if_neg ca]; exact nxt y2 x3 hy2 h3 e2 ⟨.inl, fun g => g.elim id fun g => absurd (an.2 g.2) ca⟩
        · rw [if_neg c1]; exact nxt y2 x3 hy2 h3 e2 ⟨.inl, fun g => g.elim id fun g => absurd g.1 c1⟩
      rw [(or_x0 h2).1, (or_x0 h2).2]
      refine ⟨by omega, ?_⟩
      by_cases c1 : N0 160 k = -1
      · rw [if_pos c1]
        refine ⟨by omega, ?_⟩
        by_cases ca : an_ (sr_ (N0 164 k) s) 1 = 1
        · rw [if_pos ca]; exact snd 1 (.inr rfl) ⟨fun _ => .inr ⟨c1, an.1 ca⟩, fun _ => rfl⟩
        · rw [if_neg ca]; exact snd x2 h2 ⟨.inl, fun g => g.elim id fun g => absurd (an.2 g.2) ca⟩
      · rw [if_neg c1]; exact snd x2 h2 ⟨.inl, fun g => g.elim id fun g => absurd g.1 c1⟩
    · rw [if_neg c, w32_id (x := s + 1) (by omega) (by omega)]
      have ek : k = n := by omega
      have U : x2 = 1 ↔ SNT N0 s := by unfold SNT; rw [hn, u2, ek]
      have W : x3 = 1 ↔ HRD N0 s := by unfold HRD; rw [hn, u3, ek]
      have hu := @ifP_len _ (SNT N0 s) (2, N0 155 s)
      have last : ∀ N1, WQF N0 N1 (inA (ifP (SNT N0 s) [(2, N0 155 s)]) R) → x3 ≠ 0 → V 244 [rr 6, ii (s + 1), none, none, none, none] [] N1 := fun N1 h1 h3' => hK N1 (by rw [inA_app, ifP_t (W.1 (h3.resolve_left h3') : HRD N0 s)]; exact h1)
      by_cases c2 : x2 = 0
      · rw [if_pos c2]
        refine ⟨hs, q_w1 (P := SNT N0 s) h (by omega) (fun e => by have := U.2 e; omega) (fun N1 h1 _ => ?_)⟩
        rw [h1.1 155 (by decide)]
        by_cases c3 : x3 = 0
        · rw [if_pos c3]
          exact ⟨hs, q_w1 (P := HRD N0 s) h1 (by rw [inA_len]; omega) (fun e => by have := W.2 e; omega) (fun N2 h2 _ => hK N2 (by rw [inA_app]; exact h2))⟩
        · rw [if_neg c3]; exact last N1 h1 c3
      · rw [if_neg c2]
        have us : SNT N0 s := U.1 (h2.resolve_left c2)
        have h1 : WQF N0 N (inA (ifP (SNT N0 s) [(2, N0 155 s)]) R) := by rw [ifP_t us]; exact h
        by_cases c3 : x3 = 0
        · rw [if_pos c3]
          exact ⟨hs, q_w1 (P := HRD N0 s) h1 (by rw [inA_len]; omega) (fun e => by have := W.2 e; omega) (fun N2 h2 _ => hK N2 (by rw [inA_app]; exact h2))⟩
        · rw [if_neg c3]; exact last N h1 c3
/-- ins of a stim -/
theorem l_325 [Inhabited gh_] (hV : Cl_ wd0 (Tr_ wd0 pg0 (d + 1)) V (rv_ Kv) Qt m_316) (hW : Wk_ V) {k : Int} {P0 : Prop} (hk : 0 ≤ k ∧ k < 1300) (h : WQF N0 N R) (hi0 : 0 ≤ N0 198 k ∧ N0 199 k ≤ 1300)
    (hK : ∀ x3, (x3 = 0 ∨ x3 = 1) → (x3 = 1 ↔ (P0 ∨ (N0 193 k = 0 ∧ ∃ i, (N0 198 k ≤ i ∧ i < N0 199 k) ∧ N0 200 i = s))) → V 307 [rr 6, ii s, ii x2, ii x3, ii (k + 1), none] [] N) : ∀ (j : Nat) (i x3 : Int), N0 199 k - i ≤ (j : Int) → N0 198 k ≤ i → (x3 = 0 ∨ x3 = 1) → (x3 = 1 ↔ (P0 ∨ (N0 193 k = 0 ∧ ∃ q, (N0 198 k ≤ q ∧ q < i ∧ q < N0 199 k) ∧ N0 200 q = s))) → V 325 [rr 6, ii s, ii x2, ii x3, ii k, ii i] [] N
  | j, i, x3, hj, i0, h3, u3 => by
    refine b_316_325 (Tr_mono _) hV hW _ _ _ _ _ _ ⟨hk, ?_⟩
    rw [h.1 199 (by decide), h.1 193 (by decide), h.1 200 (by decide), (or_x0 h3).1, (or_x0 h3).2]
    by_cases c : i < N0 199 k
    · rw [if_pos c, w32_id (x := i + 1) (by omega) (by omega)]
      have nxt : ∀ y3, (y3 = 0 ∨ y3 = 1) → (y3 = 1 ↔ (x3 = 1 ∨ (N0 193 k = 0 ∧ N0 200 i = s))) → V 325 [rr 6, ii s, ii x2, ii y3, ii k, ii (i + 1)] [] N := fun y3 hy e => by
        cases j with
        | zero => omega
        | succ j =>
          refine l_325 hV hW hk h hi0 hK j (i + 1) y3 (by omega) (by omega) hy ?_
          rw [e, u3]
          constructor
          · rintro ((g | ⟨g1, q, hq, g2⟩) | ⟨g1, g2⟩)
            · exact .inl g
            · exact .inr ⟨g1, q, by omega, g2⟩
            · exact .inr ⟨g1, i, by omega, g2⟩
          · rintro (g | ⟨g1, q, hq, g2⟩)
            · exact .inl (.inl g)
            · by_cases cq : q = i
              · rw [cq] at g2; exact .inr ⟨g1, g2⟩
              · exact .inl (.inr ⟨g1, q, by omega, g2⟩)
      refine ⟨hk, ?_⟩
      by_cases c1 : N0 193 k = 0
      · rw [if_pos c1]
        refine ⟨by omega, ?_⟩
        by_cases c2 : N0 200 i = s
        · rw [if_pos c2]; exact nxt 1 (.inr rfl) ⟨fun _ => .inr ⟨c1, c2⟩, fun _ => rfl⟩
        · rw [if_neg c2]; exact nxt x3 h3 ⟨.inl, fun g => g.elim id fun g => absurd g.2 c2⟩
      · rw [if_neg c1]; exact nxt x3 h3 ⟨.inl, fun g => g.elim id fun g => absurd g.1 c1⟩
    · rw [if_neg c, w32_id (x := k + 1) (by omega) (by omega)]
      refine hK x3 h3 (u3.trans ⟨fun g => g.imp id fun ⟨g1, q, hq, g2⟩ => ⟨g1, q, ⟨hq.1, hq.2.2⟩, g2⟩, fun g => g.imp id fun ⟨g1, q, hq, g2⟩ => ⟨g1, q, ⟨hq.1, by omega, hq.2⟩, g2⟩⟩)
/-- stims -/
theorem l_307 [Inhabited gh_] (hV : Cl_ wd0 (Tr_ wd0 pg0 (d + 1)) V (rv_ Kv) Qt m_316) (hW : Wk_ V) {n : Nat} (hn : N0 6 62 = n) (hn1 : n ≤ 1300) (h : WQF N0 N R) (hi0 : ∀ k, 0 ≤ k → k < (n : Int) → 0 ≤ N0 198 k ∧ N0 199 k ≤ 1300)
    (hK : ∀ x3, (x3 = 0 ∨ x3 = 1) → (x3 = 1 ↔ (∃ k i, (0 ≤ k ∧ k < N0 6 62) ∧ N0 193 k = 0 ∧ (N0 198 k ≤ i ∧ i < N0 199 k) ∧ N0 200 i = s)) → V 381 [rr 6, ii s, ii x2, ii x3, ii 0, none] [] N) : ∀ (j : Nat) (k x3 : Int), (n : Int) - k ≤ (j : Int) → 0 ≤ k → k ≤ n → (x3 = 0 ∨ x3 = 1) → (x3 = 1 ↔ (∃ q i, (0 ≤ q ∧ q < k) ∧ N0 193 q = 0 ∧ (N0 198 q ≤ i ∧ i < N0 199 q) ∧ N0 200 i = s)) → V 307 [rr 6, ii s, ii x2, ii x3, ii k, none] [] N
  | j, k, x3, hj, k0, kn, h3, u3 => by
    refine b_316_307 (Tr_mono _) hV hW _ _ _ _ _ ?_
    rw [h.2.1 62 (by decide), hn, h.1 198 (by decide)]
    by_cases c : k < (n : Int)
    · rw [if_pos c]
      have hi := hi0 k k0 c
      refine ⟨by omega, l_325 (P0 := x3 = 1) hV hW ⟨k0, by omega⟩ h hi (fun y3 hy e => ?_) (N0 199 k - N0 198 k).toNat (N0 198 k) x3 (by omega) (Int.le_refl _) h3 ⟨.inl, fun g => g.elim id fun ⟨_, q, hq, _⟩ => by omega⟩⟩
      cases j with
      | zero => omega
      | succ j =>
        refine l_307 hV hW hn hn1 h hi0 hK j (k + 1) y3 (by omega) (by omega) (by omega) hy ?_
        rw [e, u3]
        constructor
        · rintro (⟨q, i, hq, g⟩ | ⟨g1, i, hi, g2⟩)
          · exact ⟨q, i, by omega, g⟩
          · exact ⟨k, i, by omega, g1, hi, g2⟩
        · rintro ⟨q, i, hq, g1, hi, g2⟩
          by_cases cq : q = k
          · rw [cq] at g1 hi; exact .inr ⟨g1, i, hi, g2⟩
          · exact .inl ⟨q, i, by omega, g1, hi, g2⟩
    · rw [if_neg c]
      have ek : k = n := by omega
      refine hK x3 h3 ?_
      rw [hn, u3, ek]
/-- ops -/
theorem l_259 [Inhabited gh_] (hV : Cl_ wd0 (Tr_ wd0 pg0 (d + 1)) V (rv_ Kv) Qt m_316) (hW : Wk_ V) {n : Nat} (h : WQF N0 N R) (hn : N0 6 75 = n) (hn1 : n ≤ 1300)
    (hK : ∀ x2, (x2 = 0 ∨ x2 = 1) → (x2 = 1 ↔ (∃ k, (0 ≤ k ∧ k < N0 6 75) ∧ N0 203 k = 2 ∧ N0 205 k = s)) → V 307 [rr 6, ii s, ii x2, ii 0, ii 0, none] [] N) : ∀ (j : Nat) (k x2 : Int), (n : Int) - k ≤ (j : Int) → 0 ≤ k → k ≤ n → (x2 = 0 ∨ x2 = 1) → (x2 = 1 ↔ (∃ i, (0 ≤ i ∧ i < k) ∧ N0 203 i = 2 ∧ N0 205 i = s)) → V 259 [rr 6, ii s, ii x2, ii 0, ii k, none] [] N
  | j, k, x2, hj, k0, kn, h2, hb => by
    refine b_316_259 (Tr_mono _) hV hW _ _ _ _ _ ?_
    rw [h.2.1 75 (by decide), hn, h.1 203 (by decide), h.1 205 (by decide), (or_x0 h2).1, (or_x0 h2).2]
    by_cases c : k < (n : Int)
    · rw [if_pos c, w32_id (x := k + 1) (by omega) (by omega)]
      have nxt : ∀ x, (x = 0 ∨ x = 1) → (x = 1 ↔ (x2 = 1 ∨ (N0 203 k = 2 ∧ N0 205 k = s))) → V 259 [rr 6, ii s, ii x, ii 0, ii (k + 1), none] [] N := fun x hx e => by
        cases j with
        | zero => omega
        | succ j =>
          refine l_259 hV hW h hn hn1 hK j (k + 1) x (by omega) (by omega) (by omega) hx ?_
          rw [e, hb]
          constructor
          · rintro (⟨i, hi, g⟩ | g)
            · exact ⟨i, by omega, g⟩
            · exact ⟨k, by omega, g⟩
          · rintro ⟨i, hi, g⟩
            by_cases ci : i = k
            · rw [ci] at g; exact .inr g
            · exact .inl ⟨i, by omega, g⟩
      refine ⟨by omega, ?_⟩
      by_cases c1 : N0 203 k = 2
      · rw [if_pos c1]
        refine ⟨by omega, ?_⟩
        by_cases c2 : N0 205 k = s
        · rw [if_pos c2]; exact nxt 1 (.inr rfl) ⟨fun _ => .inr ⟨c1, c2⟩, fun _ => rfl⟩
        · rw [if_neg c2]; exact nxt x2 h2 ⟨.inl, fun g => g.elim id fun g => absurd g.2 c2⟩
      · rw [if_neg c1]; exact nxt x2 h2 ⟨.inl, fun g => g.elim id fun g => absurd g.1 c1⟩
    · rw [if_neg c]
      have ek : k = n := by omega
      refine hK x2 h2 ?_
      rw [hn, hb, ek]
theorem l_244 [Inhabited gh_] (hV : Cl_ wd0 (Tr_ wd0 pg0 (d + 1)) V (rv_ Kv) Qt m_316) (hW : Wk_ V) {n nr nc ns : Nat} (hn : N0 6 17 = n) (hn1 : n ≤ 20) (hr : N0 6 18 = nr ∧ nr ≤ 10) (hc : N0 6 75 = nc ∧ nc ≤ 1300) (h62 : N0 6 62 = ns ∧ ns ≤ 1300) (hm : ∀ r, 0 ≤ r → r < (nr : Int) → 0 ≤ N0 164 r ∧ N0 164 r < 1048576) (hi0 : ∀ k, 0 ≤ k → k < (ns : Int) → 0 ≤ N0 198 k ∧ N0 199 k ≤ 1300) (hl : R.length ≤ 200)
    (hK : ∀ N', WQF N0 N' (inA (sgL9 N0 n) R) → Kv N') : ∀ (j k : Nat) (N : mm_), k + j = n → WQF N0 N (inA (sgL9 N0 k) R) → V 244 [rr 6, ii (k : Int), none, none, none, none] [] N
  | j, k, N, hj, h => by
    refine b_316_244 (Tr_mono _) hV hW _ _ ?_
    rw [h.2.1 17 (by decide), hn]
    by_cases c : (k : Int) < n
    · rw [if_pos c]
      cases j with
      | zero => omega
      | succ j =>
        have hlen : (sgL9 N0 k).length ≤ 2 * k := sgW_len (U := SNT N0) (W := HRD N0) (p := fun s => N0 155 s) k
        refine l_259 hV hW h hc.1 hc.2 (fun x2 hx2 u2 => ?_) nc 0 0 (by omega) (Int.le_refl _) (by omega) (.inl rfl) ⟨fun e => by omega, fun ⟨i, hi, _⟩ => by omega⟩
        refine l_307 hV hW h62.1 h62.2 h hi0 (fun x3 hx3 u3 => ?_) ns 0 0 (by omega) (Int.le_refl _) (by omega) (.inl rfl) ⟨fun e => by omega, fun ⟨q, i, hq, _⟩ => by omega⟩
        refine l_381 hV hW (by omega) hr.1 hr.2 hm h (by rw [inA_len]; omega) (fun N1 h1 => ?_) nr 0 x2 x3 (by omega) (Int.le_refl _) (by omega) hx2 hx3 (u2.trans ⟨.inl, fun g => g.elim id fun ⟨r, hr, _⟩ => by omega⟩) (u3.trans ⟨.inl, fun g => g.elim id fun ⟨r, hr, _⟩ => by omega⟩)
        refine l_244 hV hW hn hn1 hr hc h62 hm hi0 hl hK j (k + 1) N1 (by omega) ?_
        have ea : inA (sgL9 N0 (k + 1)) R = inA (ifP (SNT N0 k) [(2, N0 155 k)] ++ ifP (HRD N0 k) [(3, N0 155 k)]) (inA (sgL9 N0 k) R) := by
          show inA (sgW (SNT N0) (HRD N0) (fun s => N0 155 s) k ++ (ifP (SNT N0 k) [(2, N0 155 k)] ++ ifP (HRD N0 k) [(3, N0 155 k)])) R = _
          rw [inA_app]; rfl
        rw [ea]; exact h1
    · rw [if_neg c]
      have ek : k = n := by omega
      rw [ek] at h; exact rv_i (hK N h)
theorem q_316 [Inhabited gh_] {n n2 nr nc nst nt : Nat} {ns nl : Int → Nat} (hn : N 6 17 = n) (hn1 : n ≤ 20) (h19 : N 6 19 = n2 ∧ n2 ≤ 6) (hr : N 6 18 = nr ∧ nr ≤ 10) (hc : N 6 75 = nc ∧ nc ≤ 1300) (h62 : N 6 62 = nst ∧ nst ≤ 1300) (hm : ∀ r, 0 ≤ r → r < (nr : Int) → 0 ≤ N 164 r ∧ N 164 r < 1048576) (hi0 : ∀ k, 0 ≤ k → k < (nst : Int) → 0 ≤ N 198 k ∧ N 199 k ≤ 1300)
    (hnl : ∀ T, 0 ≤ T → T < (n2 : Int) → (N 174 T = ns T ∧ ns T ≤ 12) ∧ (N 175 T = nl T ∧ nl T ≤ 10)) (hb : ∀ T, 0 ≤ T → T < (n2 : Int) → BTT N T nt)
    (hK : ∀ N', WQF N N' (inA (sgL9 N n) (inA (tyL N ns nl n2) [])) → Kv N') : Tr_ wd0 pg0 (d + 2) 316 [.inr (.inr 6)] N (rv_ Kv) Qt := by
  refine t_316 fun V hV hW => b_316_0 (Tr_mono _) hV hW _ ?_
  have W0 : WQF N (up_ N 6 120 0) (inA (tyL N ns nl 0) []) := ⟨fun k hk => up_ne (fun e => hk (by rw [e]; decide)), fun i hi => up_of2 hi, up_at, trivial⟩
  refine l_7 hV hW h19.1 h19.2 hc hnl hb (fun N' h' => ?_) n2 0 _ (by omega) W0
  have hlen : (tyL N ns nl n2).length ≤ 23 * n2 := tyW_len n2 (fun T hT => ⟨(hnl T (by omega) (by omega)).1.2, (hnl T (by omega) (by omega)).2.2⟩)
  exact l_244 hV hW hn hn1 hr hc h62 hm hi0 (by rw [inA_len]; simp; omega) hK n 0 N' (by omega) h'
end QWc
end T312_qw
section T313_p1
/-! the start of pass 1 -/
section P1a
variable {M N : mm_}
theorem SYS_i [ig : Inhabited gh_] (hT : Tks M N) (h1 : M 1 2 = 5 ∧ M 1 3 = 0 ∧ M 1 4 = 0 ∧ M 1 6 = 0 ∧ M 1 8 = 0 ∧ M 1 31 = 0 ∧ M 1 32 = 0 ∧ M 1 33 = 0) (h5 : M 5 0 = 0 ∧ M 5 1 = 0 ∧ M 5 2 = 0 ∧ M 5 3 = 0 ∧ M 5 4 = 0) (h7 : 0 ≤ M 1 7 ∧ M 1 7 + 9608 ≤ 1000000000 - (gg_ : Int))
    (h6 : N 6 12 = 0 ∧ N 6 13 = 0 ∧ N 6 15 = 0 ∧ N 6 16 = 0 ∧ N 6 17 = 0 ∧ N 6 18 = 0 ∧ N 6 19 = 0 ∧ N 6 58 = 0) (h6' : N 6 62 = 0 ∧ N 6 63 = 0 ∧ N 6 75 = 0 ∧ N 6 76 = 0 ∧ N 6 90 = 0 ∧ N 6 104 = 0) : SYS 0 1000000 M N 0 0 0 0 := by
  obtain ⟨a2, a3, a4, a6, a8, a31, a32, a33⟩ := h1
  obtain ⟨b0, b1, b2, b3, b4⟩ := h5
  obtain ⟨c12, c13, c15, c16, c17, c18, c19, c58⟩ := h6
  obtain ⟨d62, d63, d75, d76, d90, d104⟩ := h6'
  have k1 : kk_ (M 1 4) (M 1 5) = 1000000 := by unfold kk_; rw [if_pos a4]
  have k2 : kk_ (N 6 13) (N 6 14) = 1000000 := by unfold kk_; rw [if_pos c13]
  have hE : ER 0 1000000 M N 0 0 := by
    refine ⟨⟨Int.le_refl _, by decide, fun j j0 j1 => by omega⟩, a3, c12, a6, c15, by decide, a8, c16, .inl rfl, fun _ => c13, ⟨?_, ?_, by rw [k1, k2]; decide, by decide, .inl c16⟩, h7.1, by omega, by omega, by omega⟩
    · rw [a4]; unfold vk_; omega
    · rw [c13]; unfold vk_; omega
  have nk : ∀ {k : Int}, 0 ≤ k → k < 0 → False := fun h h' => by omega
  refine ⟨⟨⟨hT, hE, a2⟩, ⟨⟨⟨?_, fun k k0 k1 => ?_⟩, fun k k0 k1 => ?_⟩, ⟨⟨?_, fun k k0 k1 => ?_⟩, ?_⟩, ⟨?_, fun k k0 k1 => ?_⟩, fun hb => by omega, ⟨?_, fun i i0 i1 => ?_, fun u v hu => ?_, fun k k0 k1 => ?_, fun u hu => ?_⟩⟩, fun T T0 T1 => ?_, ⟨fun i j i0 ij j1 => ?_, fun _ u hu => ?_⟩, ⟨⟨by omega, by omega, by omega⟩, by omega, by omega, by omega, ⟨fun hb => by omega, fun hb => by omega⟩, by omega, by omega, by omega⟩, fun hb => by omega⟩, ⟨⟨a31, a32, a33⟩, ⟨Int.le_refl _, Int.le_refl _, Int.le_refl _⟩, fun _ => ⟨b0, b1, b2⟩⟩, fun T T0 T1 => ?_⟩
  · rw [b0, c17]; decide
  · rw [b0] at k1; exact (nk k0 k1).elim
  · rw [b0] at k1; exact (nk k0 k1).elim
  · rw [b2, c19]; decide
  · rw [b2] at k1; exact (nk k0 k1).elim
  · exact ⟨fun k k0 k1 => by rw [b2] at k1; exact (nk k0 k1).elim, fun hb => by omega⟩
  · rw [b1, c18]; decide
  · rw [b1] at k1; exact (nk k0 k1).elim
  · rw [b0, b1, b2, c58]; decide
  · rw [c58] at i1; exact (nk i0 i1).elim
  · exfalso
    unfold GLM at hu
    rw [b0, b1, b2] at hu
    rcases hu with ⟨k, hk, _⟩ | ⟨k, hk, _⟩ | ⟨k, hk, _⟩ <;> omega
  · rw [b0] at k1; exact (nk k0 k1).elim
  · exfalso
    unfold GLM at hu
    rw [b0, b1, b2] at hu
    rcases hu with ⟨k, hk, _⟩ | ⟨k, hk, _⟩ | ⟨k, hk, _⟩ <;> omega
  · rw [b2] at T1; exact (nk T0 T1).elim
  · rw [b2] at j1; omega
  · exfalso
    unfold GLM at hu
    rw [b0, b1, b2] at hu
    rcases hu with ⟨k, hk, _⟩ | ⟨k, hk, _⟩ | ⟨k, hk, _⟩ <;> omega
  · rw [b2] at T1; exact (nk T0 T1).elim
end P1a
end T313_p1
section T314_p2
/-! the start of pass 2 -/
/-- X's memory behind the filling, with the resets of pass 2 -/
def P2X (M M2 : mm_) (nr : Int) : Prop := ((∀ k : Nat, k ∉ [1, 114, 115, 116, 117, 118, 119] → M2 k = M k) ∧ (M2 1 2 = 5 ∧ M2 1 3 = 0 ∧ M2 1 4 = M 1 4 ∧ M2 1 5 = M 1 5 ∧ M2 1 6 = 0 ∧ M2 1 7 = M 1 7 ∧ M2 1 8 = 1) ∧ (M2 1 31 = 0 ∧ M2 1 32 = 0 ∧ M2 1 33 = 0) ∧ M2 1 21 = 0 ∧ M2 1 22 = 0 ∧ M2 1 23 = 0)
/-- Q's memory behind resolve, with the resets of pass 2 -/
def P2Q (N N2 : mm_) : Prop := (∀ k : Nat, k ∉ [6, 160, 161, 164] → N2 k = N k) ∧ (∀ i : Int, i ∈ [13, 14, 17, 18, 19, 58] → N2 6 i = N 6 i) ∧ (N2 6 12 = 0 ∧ N2 6 15 = 0 ∧ N2 6 16 = 1 ∧ N2 6 62 = 0 ∧ N2 6 63 = 0 ∧ N2 6 75 = 0 ∧ N2 6 76 = 0 ∧ N2 6 90 = 0 ∧ N2 6 104 = 0)
section P2a
variable {F a ns nr np : Int} {M N M2 N2 : mm_}
theorem sgl_20 [Inhabited gh_] (h : sgl9 M N) (v : Int) : sgl N v = -1 ∨ (0 ≤ sgl N v ∧ sgl N v < 20) := by
  have c0 := h.1
  unfold sgl
  rcases fi_r (fun i => N 152 i) v (N 6 17).toNat 0 with e | e
  · exact .inl e
  · right; omega
theorem lsv_b [Inhabited gh_] (h : sgl9 M N) : ∀ (m : Nat) (a w : Int), (0 ≤ w ∧ w < 1048576) → 0 ≤ lsv N m a w ∧ lsv N m a w < 1048576
  | 0, _, _, hw => hw
  | m + 1, a, w, hw => by
    unfold lsv
    refine lsv_b h m (a + 2) _ ?_
    unfold lsb
    by_cases c : sgl N (N 151 a) = -1
    · rw [if_pos c]; exact hw
    · rw [if_neg c]
      rcases sgl_20 h (N 151 a) with e | e
      · exact absurd e c
      · exact (or_bt (m := 20) (by decide) hw.1 hw.2 e.1 e.2).1
/-- a route's rows, resolved -/
theorem RT_res [Inhabited gh_] {r : Int} (hT : Tks M N) (h : RRW M N r) (hg : sgl9 M N) (h70 : M2 70 = M 70) (hX : RTX M2 N r (M 55 r)) (h158 : N2 158 = N 158) (h159 : N2 159 = N 159) (htp : tpl N2 = tpl N) (m : Nat) (hm : LST (M 70) m (dle (M 70) (M 55 r + 5) + 1)) (h164 : N2 164 r = lsv N m (N 165 r) 0) :
    M2 114 (2 * r) = (if N2 158 r = 0 then -2 else tpl N2 (N2 158 r)) ∧ M2 114 (2 * r + 1) = (if N2 159 r = 0 then -2 else tpl N2 (N2 159 r)) ∧ M2 119 r = N2 164 r ∧ 0 ≤ N2 164 r ∧ N2 164 r < 1048576 := by
  obtain ⟨⟨g0, k0, k1⟩, ⟨m', hm'⟩, ⟨q1, q2⟩, _, q5⟩ := h
  obtain ⟨⟨x1, x2⟩, _, x3⟩ := hX
  obtain ⟨ho, o1, ⟨k2, h13⟩, o3, _⟩ := hm'
  generalize M 55 r = a at *
  have g1 := gd_s g0 (by omega) (by rw [k0]; decide)
  have g2 := gd_s g1 ho.2 (by rw [ho.1]; decide)
  have g3 := gd_s g2 (by omega) (by rcases o1.1 with e | e <;> (rw [show a + 1 + 1 = a + 2 by omega, e]; decide))
  have g4 := gd_s g3 (by omega) (by rw [show a + 1 + 1 + 1 = a + 3 by omega, k2]; decide)
  rw [show a + 1 + 1 = a + 2 by omega] at g2
  rw [show a + 1 + 1 + 1 + 1 = a + 4 by omega] at g4
  have side : ∀ t, gd_ M t → sdO (M 70) t → ∀ v, v = sdq M N t → sdv M2 N t = (if v = 0 then -2 else tpl N v) := fun t gt ot v hv => by
    unfold sdv
    rw [h70, hv]
    unfold sdq
    by_cases c : M 70 t = 25
    · rw [if_pos c, if_pos c, if_pos rfl]
    · rw [if_neg c, if_neg c]
      have k : M 70 t = 100 := by rcases ot.1 with e | e <;> omega
      have p := ((hT t gt).2.2.2.2.2.1 k).2
      rw [if_neg (by omega)]
  refine ⟨?_, ?_, ?_, ?_⟩
  · rw [h158, htp, x1]; exact side _ g2 o1 _ q1
  · rw [h159, htp, x2]; exact side _ g4 o3 _ q2
  · rw [h164, q5]
    have := x3 m (by rw [h70]; exact hm)
    rw [h70] at this; exact this
  · rw [h164]; exact lsv_b hg m _ 0 (by decide)
end P2a
section P2b
variable {F a ns nr np : Int} {M N M2 N2 : mm_}
theorem SYS_2 (i1 i2 : Inhabited gh_) (h : @SYS i1 0 F M N a ns nr np) (hx : P2X M M2 nr) (hq : P2Q N N2) (h5 : M 5 3 = 0 ∧ M 5 4 = 0) (h122 : ∀ T, 0 ≤ T → T < np → M 122 T = N 170 T ∧ N 170 T ≤ M 124 T) (hr : RT1 M2 N2) (h7 : M 1 7 + 9608 ≤ 1000000000 - ((@gg_ i2 : Nat) : Int)) (hbb : 1000000 ≤ @bb_ i2 (M2 1 19)) : @SYS i2 1 F M2 N2 0 0 0 0 := by
  obtain ⟨x, ⟨a2, a3, a4, a5, a6, a7, a8⟩, ⟨a31, a32, a33⟩, a21, a22, a23⟩ := hx
  obtain ⟨q, q6, c12, c15, c16, d62, d63, d75, d76, d90, d104⟩ := hq
  obtain ⟨⟨⟨s1, s2, s3⟩, ⟨g1, g2, g3, g4, g5⟩, ty, ⟨tp, gl⟩, _, _⟩, ⟨_, _, d4⟩, cnt⟩ := h
  obtain ⟨d50, d51, d52⟩ := d4 rfl
  obtain ⟨_, _, _, _, _, _, _, _, _, b13, nr', b7, _⟩ := s2
  have c13 := b13 rfl
  have e5 := x 5 (by decide)
  have e70 := x 70 (by decide)
  have e71 := x 71 (by decide)
  have e151 := q 151 (by decide)
  have nm : ∀ u, nm9_ M u → nm9_ M2 u := fun u hu => nm9_r hu e70
  have glm : ∀ u, GLM M2 u ↔ GLM M u := fun u => by
    unfold GLM
    rw [e5, x 56 (by decide), x 57 (by decide), x 58 (by decide)]
  obtain ⟨⟨p1, p1'⟩, p2⟩ := g1
  obtain ⟨⟨p3, p3'⟩, p4, _⟩ := g2
  obtain ⟨p6, p6'⟩ := g3
  obtain ⟨u1, u3, u4, u5⟩ := g5
  have hTk : Tks M2 N2 := Tks_r s1 (fun r hr => x r (fun e => by simp only [List.mem_cons, List.not_mem_nil, or_false] at hr e; omega)) (fun r hr => q r (fun e => by simp only [List.mem_cons, List.not_mem_nil, or_false] at hr e; omega))
  have hE : ER 1 F M2 N2 0 0 := ⟨⟨Int.le_refl _, by decide, fun j j0 j1 => by omega⟩, a3, c12, a6, c15, by decide, a8, c16, .inr rfl, fun hb => by omega, by unfold NR; rw [a4, a5, q6 13 (by decide), q6 14 (by decide)]; exact ⟨nr'.1, nr'.2.1, nr'.2.2.1, nr'.2.2.2.1, .inr (by rw [show kk_ (N 6 13) (N 6 14) = 1000000 by unfold kk_; rw [if_pos c13]]; exact hbb)⟩, by rw [a7]; exact b7, by rw [a7]; omega, by rw [e5]; omega, by rw [e5]; omega⟩
  have row : ∀ T, ROW M N M2 N2 T := fun T => ROW_e (fun r hr => x r (fun e => by revert hr e; unfold rwX; simp only [List.mem_cons, List.not_mem_nil, or_false]; omega)) (fun r hr => q r (fun e => by revert hr e; unfold rwQ; simp only [List.mem_cons, List.not_mem_nil, or_false]; omega))
  refine ⟨⟨⟨hTk, hE, a2⟩, ⟨?_, ?_, ?_, fun _ => hr, ?_⟩, fun T T0 T1 => ?_, ⟨by rw [e5, x 58 (by decide)]; exact tp, fun hb => by omega⟩, ⟨⟨by omega, by omega, by rw [e5]; omega⟩, by omega, by rw [a7]; omega, by omega, by rw [a21, a23]; decide, by rw [e5]; omega, by omega, by omega⟩, fun _ => ⟨⟨fun _ => 0, ⟨by omega, rfl, by rw [e5]; exact h5.2.symm⟩, fun k k0 k1 => by omega⟩, fun h => by omega⟩⟩, ⟨⟨a31, a32, a33⟩, ⟨Int.le_refl _, Int.le_refl _, Int.le_refl _⟩, fun hb => by omega⟩, fun T T0 T1 => ?_⟩
  · unfold SGT sgl9
    rw [e5, q6 17 (by decide), x 56 (by decide), q 152 (by decide), e151, x 112 (by decide), x 113 (by decide), q 156 (by decide), q 157 (by decide)]
    exact ⟨⟨p1, fun k k0 k1 => ⟨nm _ (p1' k k0 k1).1, (p1' k k0 k1).2⟩⟩, p2⟩
  · unfold PRT tpl9
    rw [e5, q6 19 (by decide), x 58 (by decide), q 154 (by decide), e151, q 170 (by decide), q 182 (by decide), q 183 (by decide), x 122 (by decide), x 130 (by decide)]
    refine ⟨⟨p3, fun k k0 k1 => ⟨nm _ (p3' k k0 k1).1, (p3' k k0 k1).2⟩⟩, p4, fun _ k k0 k1 => ⟨(h122 k k0 (by omega)).1, fun i i0 i1 => ?_⟩⟩
    exact ((ty k k0 k1).1.2.2.1 i i0 (by have := (h122 k k0 (by omega)).2; omega)).2.2.1
  · unfold rtl9
    rw [e5, q6 18 (by decide), x 57 (by decide), q 153 (by decide), e151]
    exact ⟨p6, fun k k0 k1 => ⟨nm _ (p6' k k0 k1).1, (p6' k k0 k1).2⟩⟩
  · unfold GLT
    rw [q6 58 (by decide), e5, q 190 (by decide), q 191 (by decide), e151, e71, q 155 (by decide), x 56 (by decide)]
    refine ⟨u1, fun i i0 i1 => ?_, fun u v hu hv => u4 u v ((glm u).1 hu) ((glm v).1 hv), u5.1, fun u hu => u5.2 u ((glm u).1 hu)⟩
    obtain ⟨u, hu, w⟩ := u3 i i0 i1
    exact ⟨u, ⟨nm _ hu.1, (glm u).2 hu.2⟩, w⟩
  · rw [e5] at T1
    obtain ⟨t1, t2, t3, t4, ⟨t5, t5'⟩, t6⟩ := ty T T0 T1
    have t : TYP 1 F M N 0 T := ⟨t1, t2, t3, t4, ⟨t5, fun k k0 k1 => ⟨(t5' k k0 k1).1, fun hb => by omega, (t5' k k0 k1).2.2⟩⟩, t6⟩
    exact TYP_c t (row T) e70 e71 e151 (Int.le_refl _) (Int.le_refl _)
  · rw [e5] at T1
    exact CNT_c (cnt T T0 T1) (row T)
end P2b
end T314_p2
section T315_pr
/-! reads (X 101) | parse (Q 218): resets, tokens, pass 1 -/
/-- X's resets at the start -/
def rX0 (M : mm_) : mm_ := up_ (up_ (up_ (up_ (up_ (up_ (up_ (up_ (up_ (up_ M 1 2 5) 5 0 0) 5 1 0) 5 2 0) 5 3 0) 5 4 0) 5 36 0) 1 4 0) 1 5 ((-1))) 1 9 0
def rX1 (M : mm_) : mm_ := up_ (up_ (up_ (up_ (up_ M 1 3 0) 1 6 0) 1 31 0) 1 32 0) 1 33 0
def rQ0 (N : mm_) : mm_ := up_ (up_ (up_ (up_ (up_ (up_ N 6 17 0) 6 18 0) 6 19 0) 6 58 0) 6 13 0) 6 16 0
def rQ1 (N : mm_) : mm_ := up_ (up_ (up_ (up_ (up_ (up_ (up_ (up_ N 6 12 0) 6 15 0) 6 75 0) 6 104 0) 6 62 0) 6 63 0) 6 90 0) 6 76 0
/-- Q behind pass 1 -/
def qRS (dq : Nat) (N : mm_) (G : Int → mm_ → Prop) (Qt : qt_) : Prop := (if N 6 13 ≤ 0 then
    Tr_ wd0 pg0 (dq + 20) 315 [.inr (.inr 6)] N (rv_ fun M3 =>
     bl_ 1 ∧ Tr_ wd0 pg0 (dq + 20) 226 [.inr (.inr 6)] (up_ M3 6 16 1) (rv_ fun M4 =>
      bl_ 0 ∧ (if M4 6 13 = 0 then
       bl_ 1 ∧ ri_ G [.inl 1] (up_ M4 6 16 0)
      else
       bl_ 0 ∧ ri_ G [.inl 0] (up_ M4 6 16 0))) Qt) Qt
   else
    bl_ 0 ∧ ri_ G [.inl 0] N)
section PRa
variable {dq : Nat} {G : Int → mm_ → Prop} {Qt Qtq : qt_} {M N N1 : mm_}
theorem rX0_r [Inhabited gh_] {k : Nat} (h1 : k ≠ 1) (h5 : k ≠ 5) : rX0 M k = M k := by
  unfold rX0; rw [up_ne h1, up_ne h1, up_ne h1, up_ne h5, up_ne h5, up_ne h5, up_ne h5, up_ne h5, up_ne h5, up_ne h1]
theorem rX0_1 [Inhabited gh_] {i : Int} (h : i ∉ [2, 4, 5, 9]) : rX0 M 1 i = M 1 i := by
  unfold rX0; rw [up_of2 (nm_i h (by decide)), up_of2 (nm_i h (by decide)), up_of2 (nm_i h (by decide)), up_ne (by decide), up_ne (by decide), up_ne (by decide), up_ne (by decide), up_ne (by decide), up_ne (by decide), up_of2 (nm_i h (by decide))]
theorem rX0_k [Inhabited gh_] : (rX0 M 1 2 = 5 ∧ rX0 M 1 4 = 0 ∧ rX0 M 1 5 = -1 ∧ rX0 M 1 9 = 0) ∧ rX0 M 5 0 = 0 ∧ rX0 M 5 1 = 0 ∧ rX0 M 5 2 = 0 ∧ rX0 M 5 3 = 0 ∧ rX0 M 5 4 = 0 ∧ rX0 M 5 36 = 0 := by
  refine ⟨⟨?_, ?_, ?_, ?_⟩, ?_, ?_, ?_, ?_, ?_, ?_⟩ <;> unfold rX0 up_ <;> simp
theorem rX1_r [Inhabited gh_] {k : Nat} (h1 : k ≠ 1) : rX1 M k = M k := by
  unfold rX1; rw [up_ne h1, up_ne h1, up_ne h1, up_ne h1, up_ne h1]
theorem rX1_1 [Inhabited gh_] {i : Int} (h : i ∉ [3, 6, 31, 32, 33]) : rX1 M 1 i = M 1 i := by
  unfold rX1; rw [up_of2 (nm_i h (by decide)), up_of2 (nm_i h (by decide)), up_of2 (nm_i h (by decide)), up_of2 (nm_i h (by decide)), up_of2 (nm_i h (by decide))]
theorem rX1_k [Inhabited gh_] : rX1 M 1 3 = 0 ∧ rX1 M 1 6 = 0 ∧ rX1 M 1 31 = 0 ∧ rX1 M 1 32 = 0 ∧ rX1 M 1 33 = 0 := by
  refine ⟨?_, ?_, ?_, ?_, ?_⟩ <;> unfold rX1 up_ <;> simp
theorem rQ0_r [Inhabited gh_] {k : Nat} (h1 : k ≠ 6) : rQ0 N k = N k := by
  unfold rQ0; rw [up_ne h1, up_ne h1, up_ne h1, up_ne h1, up_ne h1, up_ne h1]
theorem rQ0_6 [Inhabited gh_] {i : Int} (h : i ∉ [13, 16, 17, 18, 19, 58]) : rQ0 N 6 i = N 6 i := by
  unfold rQ0; rw [up_of2 (nm_i h (by decide)), up_of2 (nm_i h (by decide)), up_of2 (nm_i h (by decide)), up_of2 (nm_i h (by decide)), up_of2 (nm_i h (by decide)), up_of2 (nm_i h (by decide))]
theorem rQ0_k [Inhabited gh_] : rQ0 N 6 13 = 0 ∧ rQ0 N 6 16 = 0 ∧ rQ0 N 6 17 = 0 ∧ rQ0 N 6 18 = 0 ∧ rQ0 N 6 19 = 0 ∧ rQ0 N 6 58 = 0 := by
  refine ⟨?_, ?_, ?_, ?_, ?_, ?_⟩ <;> unfold rQ0 up_ <;> simp
theorem rQ1_r [Inhabited gh_] {k : Nat} (h1 : k ≠ 6) : rQ1 N k = N k := by
  unfold rQ1; rw [up_ne h1, up_ne h1, up_ne h1, up_ne h1, up_ne h1, up_ne h1, up_ne h1, up_ne h1]
theorem rQ1_6 [Inhabited gh_] {i : Int} (h : i ∉ [12, 15, 62, 63, 75, 76, 90, 104]) : rQ1 N 6 i = N 6 i := by
  unfold rQ1; rw [up_of2 (nm_i h (by decide)), up_of2 (nm_i h (by decide)), up_of2 (nm_i h (by decide)), up_of2 (nm_i h (by decide)), up_of2 (nm_i h (by decide)), up_of2 (nm_i h (by decide)), up_of2 (nm_i h (by decide)), up_of2 (nm_i h (by decide))]
theorem rQ1_k [Inhabited gh_] : (rQ1 N 6 12 = 0 ∧ rQ1 N 6 15 = 0) ∧ rQ1 N 6 62 = 0 ∧ rQ1 N 6 63 = 0 ∧ rQ1 N 6 75 = 0 ∧ rQ1 N 6 76 = 0 ∧ rQ1 N 6 90 = 0 ∧ rQ1 N 6 104 = 0 := by
  refine ⟨⟨?_, ?_⟩, ?_, ?_, ?_, ?_, ?_, ?_⟩ <;> unfold rQ1 up_ <;> simp
/-- Q's 226 from its start -/
theorem q_226 [Inhabited gh_] {Kv : mm_ → Prop} (hg : go_ (rQ1 N)) (h : q73 dq 0 0 1 (rQ1 N) Kv Qt) : Tr_ wd0 pg0 (dq + 20) 226 [.inr (.inr 6)] N (rv_ Kv) Qt := by
  refine t_226 fun V hV hW => b_226_0 (Tr_mono _) hV hW _ (b_226_49 (Tr_mono _) hV hW _ _ _ _ _ (q_227g hg ?_))
  rw [if_pos rfl, if_neg (by decide)]
  exact h V hV hW
/-- Q's parse up to pass 1, its tokens as one memory -/
theorem q_218 [Inhabited gh_] (hn0 : 0 ≤ N 6 4) (hn : N 6 4 ≤ 5000) (hw : Wd_ N) (hb : ∀ i, 0 ≤ i → i < 5000 → -128 ≤ N 146 i ∧ N 146 i ≤ 127) :
    ∃ (N1 : mm_) (m : Nat), (Fr_ [6, 149, 150, 151] (rQ0 N) N1 ∧ (∀ j, j ≠ 11 → N1 6 j = rQ0 N 6 j) ∧ QT_ N1 (N 146) (N 6 4) m) ∧ ∀ (G : Int → mm_ → Prop) (Qtq : qt_), q73 dq 0 0 1 (rQ1 N1) (fun N' => qRS dq N' G Qtq) Qtq → Tr_ wd0 pg0 (dq + 21) 218 [.inr (.inr 6)] N (ri_ G) Qtq := by
  have e146 : rQ0 N 146 = N 146 := rQ0_r (by decide)
  have e4 : rQ0 N 6 4 = N 6 4 := rQ0_6 (by decide)
  obtain ⟨N1, m, ⟨f1, f2, f3⟩, hr⟩ := s_219e (M := rQ0 N) (by rw [e4]; exact hn0) (by rw [e4]; exact hn) (by unfold Wd_; rw [rQ0_r (by decide)]; exact hw) (by rw [e146]; exact hb)
  rw [e146, e4] at f3
  refine ⟨N1, m, ⟨f1, f2, f3⟩, fun G Qtq h => t_218 fun V hV hW => b_218_0 (Tr_mono _) hV hW _ ⟨.inl rfl, hr (dq + 15) _ _ (q_226 ?_ h)⟩⟩
  left
  rw [rQ1_6 (by decide), f2 13 (by decide), rQ0_k.1]; decide
end PRa
end T315_pr
section T316_pr
/-! reads (X 101): the filling of all routes -/
def rX2 (M : mm_) : mm_ := up_ (up_ (up_ (up_ (up_ M 1 9 0) 1 8 1) 1 21 0) 1 22 0) 1 23 0
/-- all routes below k are filled -/
def FLL (M0 M N : mm_) (k : Int) : Prop := ((∀ q : Nat, q ∉ [1, 114, 115, 116, 117, 118, 119] → M q = M0 q) ∧ (∀ i : Int, i ∉ [3, 32] → M 1 i = M0 1 i) ∧ M 1 32 = k) ∧ ∀ r, 0 ≤ r → r < k → RTX M N r (M0 55 r)
section PRb
variable {Qr : qr_} {Qt : qt_} {V : vv_} {M0 N : mm_} {x2 : Int}
theorem rX2_r [Inhabited gh_] {M : mm_} {k : Nat} (h1 : k ≠ 1) : rX2 M k = M k := by
  unfold rX2; rw [up_ne h1, up_ne h1, up_ne h1, up_ne h1, up_ne h1]
theorem rX2_1 [Inhabited gh_] {M : mm_} {i : Int} (h : i ∉ [8, 9, 21, 22, 23]) : rX2 M 1 i = M 1 i := by
  unfold rX2; rw [up_of2 (nm_i h (by decide)), up_of2 (nm_i h (by decide)), up_of2 (nm_i h (by decide)), up_of2 (nm_i h (by decide)), up_of2 (nm_i h (by decide))]
theorem rX2_k [Inhabited gh_] {M : mm_} : rX2 M 1 8 = 1 ∧ rX2 M 1 9 = 0 ∧ rX2 M 1 21 = 0 ∧ rX2 M 1 22 = 0 ∧ rX2 M 1 23 = 0 := by
  refine ⟨?_, ?_, ?_, ?_, ?_⟩ <;> unfold rX2 up_ <;> simp
theorem RTX_row [Inhabited gh_] {M1 M : mm_} {r a : Int} (h : RTX M N r a) (h70 : M1 70 = M 70) (h73 : M1 73 = M 73) (h4 : M1 114 (2 * r) = M 114 (2 * r) ∧ M1 114 (2 * r + 1) = M 114 (2 * r + 1)) (hr : ∀ k : Nat, k ∈ [115, 116, 117, 118, 119] → M1 k r = M k r) : RTX M1 N r a := by
  unfold RTX sdv at h ⊢
  rw [h70, h73, h4.1, h4.2, hr 115 (by decide), hr 116 (by decide), hr 117 (by decide), hr 118 (by decide), hr 119 (by decide)]
  exact h
theorem l_96 [Inhabited gh_] (hV : Cl_ wd0 (Tr_ wd0 pg0 132) V Qr Qt m_101) (hW : Wk_ V) (hT : Tks M0 N) (h1 : M0 1 2 = 5 ∧ M0 1 8 = 0 ∧ M0 1 9 = 1) (hs : sgl9 M0 N) (hp : tpl9 M0 N) (h51 : 0 ≤ M0 5 1 ∧ M0 5 1 ≤ 10) (hR : ∀ r, 0 ≤ r → r < M0 5 1 → RRW M0 N r)
    (hK : ∀ M', FLL M0 M' N (M0 5 1) → Tr_ wd0 pg0 132 102 [.inr (.inr 1)] (rX2 M') (rv_ fun M1 =>
   (if M1 1 4 = 0 then
    Tr_ wd0 pg0 132 179 [.inr (.inr 1)] M1 (rv_ fun M2 =>
     Qr [.inl (M2 1 4)] M2) (fun r M9 => (r = 7 ∨ r = 8) ∧ V 173 [rr 1, rr 9, ii x2, rr 5, none] [.inr (.inr r)] M9)
   else
    Qr [.inl (M1 1 4)] M1)) (fun r M9 => (r = 7 ∨ r = 8) ∧ V 173 [rr 1, rr 9, ii x2, rr 5, none] [.inr (.inr r)] M9)) : ∀ (j : Nat) (k : Int) (M : mm_), M0 5 1 - k ≤ (j : Int) → 0 ≤ k → k ≤ M0 5 1 → FLL M0 M N k → V 96 [rr 1, rr 9, ii x2, rr 5, none] [] M
  | j, k, M, hj, k0, k1, h => by
    obtain ⟨⟨f1, f2, f3⟩, f4⟩ := id h
    have e5 := f1 5 (by decide)
    refine b_101_96 (Tr_mono _) hV hW _ _ ⟨by rw [f2 2 (by decide)]; exact h1.1, ?_⟩
    rw [f3, e5, f1 55 (by decide)]
    by_cases c : k < M0 5 1
    · rw [if_pos c]
      refine ⟨by omega, ?_⟩
      have rr0 := hR k k0 c
      obtain ⟨⟨g0, t0, _⟩, ⟨m, hm⟩, _⟩ := rr0
      have x : ∀ q : Nat, q ≠ 1 → q ∉ [114, 115, 116, 117, 118, 119] → up_ M 1 3 (M0 55 k) q = M0 q := fun q h1 h2 => by rw [up_ne h1]; exact f1 q (fun e => h2 (by simp only [List.mem_cons, List.not_mem_nil, or_false] at e ⊢; omega))
      have x1 : ∀ i : Int, i ∉ [3, 32] → up_ M 1 3 (M0 55 k) 1 i = M0 1 i := fun i hi => by rw [up_of2 (nm_i hi (by decide))]; exact f2 i hi
      have e70 := x 70 (by decide) (by decide)
      have e73 := x 73 (by decide) (by decide)
      have FL0 : FL (up_ M 1 3 (M0 55 k)) N (M0 55 k) := by
        refine ⟨⟨Tks_r hT (fun q hq => x q (fun e => by rw [e] at hq; revert hq; decide) (fun e => by simp only [List.mem_cons, List.not_mem_nil, or_false] at e hq; omega)) (fun _ _ => rfl), ⟨gd_c e70 g0, up_at⟩, by rw [x1 8 (by decide)]; exact h1.2.1, by rw [x1 2 (by decide)]; exact h1.1⟩, ?_, ?_⟩
        · unfold sgl9
          rw [x 5 (by decide) (by decide), x 56 (by decide) (by decide)]
          exact ⟨hs.1, fun k k0 k1 => ⟨nm9_r (hs.2 k k0 k1).1 e70, (hs.2 k k0 k1).2⟩⟩
        · unfold tpl9
          rw [x 5 (by decide) (by decide), x 58 (by decide) (by decide)]
          exact ⟨hp.1, fun k k0 k1 => ⟨nm9_r (hp.2 k k0 k1).1 e70, (hp.2 k k0 k1).2⟩⟩
      refine Tr_le (d := 131) (by decide) (f_122 (m := m) (r := k) FL0 (by rw [x1 9 (by decide)]; exact h1.2.2) (by rw [up_of2 (by decide)]; exact f3) (by omega) (by rw [e70]; exact t0) (by rw [e70, e73]; exact hm) (fun M1 a' F1 fl X1 => ?_))
      obtain ⟨⟨⟨r1, r2, r3, r4⟩, _⟩, r5⟩ := fl
      have u : ∀ q : Nat, q ≠ 1 → up_ (up_ M 1 3 (M0 55 k)) 1 32 (k + 1) q = M q := fun q hq => by rw [up_ne hq, up_ne hq]
      have nx : FLL M0 M1 N (k + 1) := by
        refine ⟨⟨fun q hq => ?_, fun i hi => ?_, ?_⟩, fun r r0 rk => ?_⟩
        · rw [r1 q hq, u q (fun e => hq (by rw [e]; decide))]; exact f1 q hq
        · rw [r5 i (nm_i hi (by decide)), up_of2 (nm_i hi (by decide)), up_of2 (nm_i hi (by decide))]; exact f2 i hi
        · rw [r5 32 (by decide), up_at]
        · by_cases cr : r = k
          · rw [cr]; exact X1
          · refine RTX_row (f4 r r0 (by omega)) ?_ ?_ ⟨?_, ?_⟩ (fun q hq => ?_)
            · rw [r1 70 (by decide), u 70 (by decide)]
            · rw [r1 73 (by decide), u 73 (by decide)]
            · rw [r4 (2 * r) (by omega) (by omega), u 114 (by decide)]
            · rw [r4 (2 * r + 1) (by omega) (by omega), u 114 (by decide)]
            · rw [r3 q hq r cr, u q (fun e => by rw [e] at hq; revert hq; decide)]
      cases j with
      | zero => omega
      | succ j => exact l_96 hV hW hT h1 hs hp h51 hR hK j (k + 1) M1 (by omega) (by omega) (by omega) nx
    · rw [if_neg c]
      have ek : k = M0 5 1 := by omega
      rw [ek] at h
      exact ⟨.inl rfl, .inr rfl, hK M h⟩
end PRb
end T316_pr
section T317_cj
/-! conjunctivity of the machine -/
def Cj_ (D : ca_) : Prop := ∀ (ι : Type) (_ : ι) (a : Nat) (as : List pv_) (M : mm_) (Qr : ι → qr_) (Qt : ι → qt_), (∀ j, D a as M (Qr j) (Qt j)) → D a as M (fun vs M => ∀ j, Qr j vs M) (fun r M => ∀ j, Qt j r M)
section CJ
variable {w : wd_} {D : ca_} {ι : Type} {V : ι → vv_} {Qr : ι → qr_} {Qt : ι → qt_}
theorem sw_cj {K : ι → Nat → Prop} {x : Int} : ∀ {tb : List (Int × Nat)} {d : Nat}, (∀ j, sw_ (K j) x tb d) → sw_ (fun q => ∀ j, K j q) x tb d
  | [], d, h => h
  | k :: t, d, h => by
    unfold sw_ at h ⊢
    by_cases e : x = k.1
    · rw [if_pos e]; exact fun j => by have := h j; rw [if_pos e] at this; exact this
    · rw [if_neg e]; exact sw_cj fun j => by have := h j; rw [if_neg e] at this; exact this
theorem th_cj (i0 : ι) {hs : List (Nat × Nat × Nat)} {pc : Nat} {ls : lo_} {r : Nat} {M : mm_} (h : ∀ j, th_ (V j) (Qt j) hs pc ls r M) : th_ (fun pc ls st M => ∀ j, V j pc ls st M) (fun r M => ∀ j, Qt j r M) hs pc ls r M := by
  unfold th_ at h ⊢
  cases e : hd_ hs pc with
  | none => rw [e] at h; exact h
  | some q => rw [e] at h; exact ⟨(h i0).1, fun j => (h j).2⟩
theorem rk_cj (i0 : ι) {k pc : Nat} {ls : lo_} {st : List pv_} {vs : List pv_} {M : mm_} (h : ∀ j, rk_ (V j) k pc ls st vs M) : rk_ (fun pc ls st M => ∀ j, V j pc ls st M) k pc ls st vs M := by
  unfold rk_ at h ⊢
  split at h
  · exact ⟨(h i0).1, fun j => (h j).2⟩
  · obtain ⟨x, h1, _⟩ := h i0
    refine ⟨x, h1, fun j => ?_⟩
    obtain ⟨y, h3, h4⟩ := h j
    rw [h1] at h3; injection h3 with h3 _; injection h3 with h3; injection h3 with h3; rw [h3]; exact h4
  · obtain ⟨x, h1, _⟩ := h i0
    refine ⟨x, h1, fun j => ?_⟩
    obtain ⟨y, h3, h4⟩ := h j
    rw [h1] at h3; injection h3 with h3 _; injection h3 with h3; injection h3 with h3; rw [h3]; exact h4
  · obtain ⟨x, h1, _⟩ := h i0
    refine ⟨x, h1, fun j => ?_⟩
    obtain ⟨y, h3, h4⟩ := h j
    rw [h1] at h3; injection h3 with h3 _; injection h3 with h3; rw [h3]; exact h4
theorem cl_cj (i0 : ι) (hD : Cj_ D) (hM : Mo_ D) {hs : List (Nat × Nat × Nat)} {pc a n k : Nat} {ls : lo_} {st : List pv_} {M : mm_} (h : ∀ j, cl_ D (V j) (Qt j) hs pc a n k ls st M) : cl_ D (fun pc ls st M => ∀ j, V j pc ls st M) (fun r M => ∀ j, Qt j r M) hs pc a n k ls st M := by
  unfold cl_ at h ⊢
  by_cases e : n ≤ st.length ∧ st.length ≤ n + 8
  · rw [if_pos e]
    exact hM _ _ _ _ _ _ _ (fun vs M h => rk_cj i0 h) (fun r M h => th_cj i0 h) (hD ι i0 _ _ _ _ _ fun j => by have := h j; rw [if_pos e] at this; exact this)
  · have := h i0; rw [if_neg e] at this; exact this.elim
set_option maxHeartbeats 4000000 in
theorem ex_cj (i0 : ι) (hD : Cj_ D) (hM : Mo_ D) {m : md_} {pc len a : Nat} {i : Instr} {b : Int} {tb : List (Int × Nat)} {ls : lo_} {st : List pv_} {M : mm_} (h : ∀ j, ex_ w D (V j) (Qr j) (Qt j) m pc i len a b tb ls st M) : ex_ w D (fun pc ls st M => ∀ j, V j pc ls st M) (fun vs M => ∀ j, Qr j vs M) (fun r M => ∀ j, Qt j r M) m pc i len a b tb ls st M := by
  revert h
  cases i <;> simp only [ex_]
  all_goals first
    | exact fun h => h
    | exact fun h => (h i0).elim
    | exact fun h => cl_cj i0 hD hM h
    | skip
  all_goals (repeat' split)
  all_goals first
    | exact fun h => h
    | exact fun h => (h i0).elim
    | exact fun h => ⟨(h i0).1, fun j => (h j).2⟩
    | exact fun h q j => (h j) q
    | exact fun h => ⟨(h i0).1, fun q j => (h j).2 q⟩
    | exact fun h => th_cj i0 h
    | exact fun h => sw_cj h
    | exact fun h => cl_cj i0 hD hM h
    | skip
theorem st_cj (i0 : ι) (hD : Cj_ D) (hM : Mo_ D) {m : md_} {pc : Nat} {ls : lo_} {st : List pv_} {M : mm_} (h : ∀ j, st_ w D (V j) (Qr j) (Qt j) m pc ls st M) : st_ w D (fun pc ls st M => ∀ j, V j pc ls st M) (fun vs M => ∀ j, Qr j vs M) (fun r M => ∀ j, Qt j r M) m pc ls st M := by
  unfold st_ at h ⊢
  cases e : lk_ m.1 pc with
  | none => rw [e] at h; exact (h i0).elim
  | some q => rw [e] at h; exact ex_cj i0 hD hM h
end CJ
/-! fewer locals known -/
def Up_ (V : vv_) : vv_ := fun pc tl st M => ∃ ls, lle_ ls tl ∧ V pc ls st M
def cr_ (tl : lo_) (k : Nat) : lo_ := if k = 0 then tl else if isl_ tl[k - 1]? then tl.set (k - 1) none else tl
def fg_ (i : Instr) (tl : lo_) : lo_ := match i with
  | .istore k => cr_ tl k
  | .istore_n k => cr_ tl k
  | .lstore k => cr_ tl k
  | .lstore_n k => cr_ tl k
  | .astore k => cr_ tl k
  | .astore_n k => cr_ tl k
  | .iinc k _ => cr_ tl k
  | _ => tl
section UP
variable {w : wd_} {D : ca_} {V : vv_} {Qr : qr_} {Qt : qt_} {ls tl ls' tl' : lo_}
theorem lle_rf : lle_ ls ls := ⟨rfl, fun _ _ h => h⟩
theorem lle_tr {l2 : lo_} (h : lle_ ls tl) (g : lle_ tl l2) : lle_ ls l2 := ⟨h.1.trans g.1, fun k v e => g.2 k v (h.2 k v e)⟩
theorem lle_no {k : Nat} : lle_ (ls.set k none) ls := ⟨List.length_set .., fun j v hj => by
  rw [List.getElem?_set] at hj
  split at hj
  · split at hj <;> cases hj
  · exact hj⟩
theorem lle_set {k : Nat} {v : Option pv_} (h : lle_ ls tl) : lle_ (ls.set k v) (tl.set k v) := ⟨by rw [List.length_set, List.length_set]; exact h.1, fun j u hj => by
  rw [List.getElem?_set] at hj ⊢
  rw [← h.1]
  split at hj
  · rename_i e; rw [if_pos e]; exact hj
  · rename_i e; rw [if_neg e]; exact h.2 _ _ hj⟩
theorem cr_le {k : Nat} : lle_ (cr_ tl k) tl := by
  unfold cr_
  split
  · exact lle_rf
  · split
    · exact lle_no
    · exact lle_rf
theorem fg_le {i : Instr} : lle_ (fg_ i tl) tl := by
  cases i <;> first | exact cr_le | exact lle_rf
theorem ld_le (h : lle_ ls tl) {k : Nat} {v : pv_} (e : ld_ ls k = some v) : ld_ tl k = some v := by
  unfold ld_ at e ⊢
  split at e
  · rename_i u hu
    rw [h.2 _ _ hu]; exact e
  · cases e
theorem isl_le (h : lle_ ls tl) {k : Nat} (e : isl_ ls[k]? = true) : isl_ tl[k]? = true := by
  unfold isl_ at e
  split at e
  · rename_i x hx
    rw [h.2 _ _ hx]; rfl
  · cases e
theorem le_cr (h : lle_ ls tl) {k : Nat} (e : (k == 0 || !isl_ ls[k - 1]?) = true) : lle_ ls (cr_ tl k) := by
  unfold cr_
  split
  · exact h
  · rename_i k0
    split
    · rename_i hl
      refine ⟨by rw [List.length_set]; exact h.1, fun j v hj => ?_⟩
      rw [List.getElem?_set]
      split
      · rename_i ej
        exfalso
        have h1 := h.2 _ _ hj
        rw [← ej] at h1 hj
        rw [h1] at hl
        rw [hj] at e
        have k0' : (k == 0) = false := by simp [k0]
        rw [k0', hl] at e
        exact absurd e (by decide)
      · exact h.2 _ _ hj
    · exact h
theorem cr_ok {k : Nat} : (k == 0 || !isl_ (cr_ tl k)[k - 1]?) = true := by
  by_cases k0 : k = 0
  · simp [k0]
  · have : isl_ (cr_ tl k)[k - 1]? = false := by
      unfold cr_
      rw [if_neg k0]
      split
      · rw [List.getElem?_set]
        rw [if_pos rfl]
        split <;> rfl
      · rename_i h; exact (Bool.not_eq_true _).mp h
    rw [this]; simp
theorem cr_len {k : Nat} : (cr_ tl k).length = tl.length := cr_le.1
theorem ok1_up (h : lle_ ls tl) {k : Nat} (e : ok1_ ls k = true) : ok1_ (cr_ tl k) k = true ∧ lle_ ls (cr_ tl k) := by
  unfold ok1_ at e ⊢
  rw [Bool.and_eq_true] at e
  exact ⟨by rw [cr_ok, cr_len, ← h.1, e.1]; rfl, le_cr h e.2⟩
theorem ok2_up (h : lle_ ls tl) {k : Nat} (e : ok2_ ls k = true) : ok2_ (cr_ tl k) k = true ∧ lle_ ls (cr_ tl k) := by
  unfold ok2_ at e ⊢
  rw [Bool.and_eq_true] at e
  exact ⟨by rw [cr_ok, cr_len, ← h.1, e.1]; rfl, le_cr h e.2⟩
theorem th_up (hle : lle_ ls tl) {hs : List (Nat × Nat × Nat)} {pc : Nat} {r : Nat} {M : mm_} (h : th_ V Qt hs pc ls r M) : th_ (Up_ V) Qt hs pc tl r M := by
  unfold th_ at h ⊢
  split at h
  · exact ⟨h.1, ls, hle, h.2⟩
  · exact h
theorem rk_up (hle : lle_ ls tl) {k pc : Nat} {st : List pv_} {vs : List pv_} {M : mm_} (h : rk_ V k pc ls st vs M) : rk_ (Up_ V) k pc tl st vs M := by
  unfold rk_ at h ⊢
  split at h
  · exact ⟨h.1, ls, hle, h.2⟩
  · obtain ⟨x, h1, h2⟩ := h; exact ⟨x, h1, ls, hle, h2⟩
  · obtain ⟨x, h1, h2⟩ := h; exact ⟨x, h1, ls, hle, h2⟩
  · obtain ⟨x, h1, h2⟩ := h; exact ⟨x, h1, ls, hle, h2⟩
theorem cl_up (hM : Mo_ D) (hle : lle_ ls tl) {hs : List (Nat × Nat × Nat)} {pc a n k : Nat} {st : List pv_} {M : mm_} (h : cl_ D V Qt hs pc a n k ls st M) : cl_ D (Up_ V) Qt hs pc a n k tl st M := by
  unfold cl_ at h ⊢
  split at h
  · rename_i e9
    rw [if_pos e9]
    exact hM _ _ _ _ _ _ _ (fun vs M h => rk_up hle h) (fun r M h => th_up hle h) h
  · exact h.elim
set_option maxHeartbeats 4000000 in
theorem ex_up (hM : Mo_ D) (hle : lle_ ls tl) {m : md_} {pc len a : Nat} {i : Instr} {b : Int} {tb : List (Int × Nat)} {st : List pv_} {M : mm_} {t2 : lo_} (htl : t2 = fg_ i tl) (h : ex_ w D V Qr Qt m pc i len a b tb ls st M) : ex_ w D (Up_ V) Qr Qt m pc i len a b tb t2 st M := by
  have g : ∀ pc st M, V pc ls st M → Up_ V pc tl st M := fun _ _ _ h => ⟨ls, hle, h⟩
  revert h
  cases i <;> simp only [ex_] <;> simp only [fg_] at htl <;> subst htl
  case iload k => 
    intro h; split at h
    · rename_i e; rw [ld_le hle e]; exact g _ _ _ h
    · exact h.elim
  case iload_n k => 
    intro h; split at h
    · rename_i e; rw [ld_le hle e]; exact g _ _ _ h
    · exact h.elim
  case lload k => 
    intro h; split at h
    · rename_i e; rw [ld_le hle e]; exact g _ _ _ h
    · exact h.elim
  case lload_n k => 
    intro h; split at h
    · rename_i e; rw [ld_le hle e]; exact g _ _ _ h
    · exact h.elim
  case aload k => 
    intro h; split at h
    · rename_i e; rw [ld_le hle e]
      dsimp only
      split at h
      · exact h.elim
      · rename_i c; rw [if_neg c]; exact g _ _ _ h
    · exact h.elim
  case aload_n k => 
    intro h; split at h
    · rename_i e; rw [ld_le hle e]
      dsimp only
      split at h
      · exact h.elim
      · rename_i c; rw [if_neg c]; exact g _ _ _ h
    · exact h.elim
  case istore k =>
    intro h; split at h
    · split at h
      · rename_i e; obtain ⟨o1, o2⟩ := ok1_up hle e; rw [if_pos o1]; exact ⟨_, lle_set o2, h⟩
      · exact h.elim
    · exact h.elim
  case istore_n k =>
    intro h; split at h
    · split at h
      · rename_i e; obtain ⟨o1, o2⟩ := ok1_up hle e; rw [if_pos o1]; exact ⟨_, lle_set o2, h⟩
      · exact h.elim
    · exact h.elim
  case lstore k =>
    intro h; split at h
    · split at h
      · rename_i e; obtain ⟨o1, o2⟩ := ok2_up hle e; rw [if_pos o1]; exact ⟨_, lle_set (lle_set o2), h⟩
      · exact h.elim
    · exact h.elim
  case lstore_n k =>
    intro h; split at h
    · split at h
      · rename_i e; obtain ⟨o1, o2⟩ := ok2_up hle e; rw [if_pos o1]; exact ⟨_, lle_set (lle_set o2), h⟩
      · exact h.elim
    · exact h.elim
  case astore k =>
    intro h; split at h
    · split at h
      · rename_i e; rw [Bool.and_eq_true] at e; obtain ⟨o1, o2⟩ := ok1_up hle e.1; rw [if_pos (by rw [o1, e.2]; rfl)]; exact ⟨_, lle_set o2, h⟩
      · exact h.elim
    · exact h.elim
  case astore_n k =>
    intro h; split at h
    · split at h
      · rename_i e; rw [Bool.and_eq_true] at e; obtain ⟨o1, o2⟩ := ok1_up hle e.1; rw [if_pos (by rw [o1, e.2]; rfl)]; exact ⟨_, lle_set o2, h⟩
      · exact h.elim
    · exact h.elim
  case iinc k c =>
    intro h; split at h
    · rename_i x el
      split at h
      · rename_i e; obtain ⟨o1, o2⟩ := ok1_up hle e; rw [ld_le o2 el]; dsimp only; rw [if_pos o1]; exact ⟨_, lle_set o2, h⟩
      · exact h.elim
    · exact h.elim
  all_goals first
    | exact g _ _ _
    | exact fun h => h.elim
    | exact fun h => cl_up hM hle h
    | skip
  all_goals (repeat' split)
  all_goals first
    | exact fun h => h.elim
    | exact g _ _ _
    | exact fun h => ⟨h.1, g _ _ _ h.2⟩
    | exact fun h q => g _ _ _ (h q)
    | exact fun h => ⟨h.1, fun q => g _ _ _ (h.2 q)⟩
    | exact fun h => h
    | exact fun h => th_up hle h
    | exact fun h => sw_mono (fun q h => g _ _ _ h) h
    | exact fun h => cl_up hM hle h
    | skip
theorem st_up (hM : Mo_ D) (hle : lle_ ls tl) {m : md_} {pc : Nat} {st : List pv_} {M : mm_} {e : Instr × Nat × Nat × Int × List (Int × Nat)} (he : lk_ m.1 pc = some e) (h : st_ w D V Qr Qt m pc ls st M) : st_ w D (Up_ V) Qr Qt m pc (fg_ e.1 tl) st M := by
  unfold st_ at h ⊢
  rw [he] at h ⊢
  exact ex_up hM hle rfl h
end UP
/-- the least closed predicate -/
def Ls_ (w : wd_) (D : ca_) (Qr : qr_) (Qt : qt_) (m : md_) : vv_ := fun pc ls st M => ∀ V : vv_, Cl_ w D V Qr Qt m → Wk_ V → V pc ls st M
section LSz
variable {w : wd_} {D : ca_} {m : md_}
theorem Ls_cl (hM : Mo_ D) {Qr : qr_} {Qt : qt_} : Cl_ w D (Ls_ w D Qr Qt m) Qr Qt m := fun pc ls st M h V hV hW => hV pc ls st M (st_mono hM (fun _ _ _ _ g => g V hV hW) (fun _ _ q => q) (fun _ _ q => q) h)
theorem Ls_wk {Qr : qr_} {Qt : qt_} : Wk_ (Ls_ w D Qr Qt m) := fun pc ls ls' st M hl h V hV hW => hW pc ls ls' st M hl (h V hV hW)
theorem Ls_inv (hM : Mo_ D) {Qr : qr_} {Qt : qt_} {pc : Nat} {ls : lo_} {st : List pv_} {M : mm_} (h : Ls_ w D Qr Qt m pc ls st M) : ∃ ls', lle_ ls' ls ∧ st_ w D (Ls_ w D Qr Qt m) Qr Qt m pc ls' st M := by
  have := h (fun pc ls st M => Ls_ w D Qr Qt m pc ls st M ∧ ∃ ls', lle_ ls' ls ∧ st_ w D (Ls_ w D Qr Qt m) Qr Qt m pc ls' st M) (fun pc ls st M h => ?_) (fun pc ls ls' st M hl h => ?_)
  · exact this.2
  · have g := st_mono hM (V2 := Ls_ w D Qr Qt m) (fun _ _ _ _ g => g.1) (fun _ _ q => q) (fun _ _ q => q) h
    exact ⟨Ls_cl hM pc ls st M g, ls, lle_rf, g⟩
  · obtain ⟨h1, l2, h2, h3⟩ := h
    exact ⟨Ls_wk pc ls ls' st M hl h1, l2, lle_tr h2 hl, h3⟩
theorem Ls_cj {ι : Type} (i0 : ι) (hC : Cj_ D) (hM : Mo_ D) {Qr : ι → qr_} {Qt : ι → qt_} {pc : Nat} {ls : lo_} {st : List pv_} {M : mm_} (h : ∀ j, Ls_ w D (Qr j) (Qt j) m pc ls st M) : Ls_ w D (fun vs M => ∀ j, Qr j vs M) (fun r M => ∀ j, Qt j r M) m pc ls st M := by
  have main := h i0 (fun pc ls st M => ∀ tl, lle_ ls tl → (∀ j, Up_ (Ls_ w D (Qr j) (Qt j) m) pc tl st M) → Ls_ w D (fun vs M => ∀ j, Qr j vs M) (fun r M => ∀ j, Qt j r M) m pc tl st M) (fun pc ls st M hs tl hl hj => ?_) (fun pc ls ls' st M hl hw tl ht hj => hw tl (lle_tr hl ht) hj)
  · exact main ls lle_rf (fun j => ⟨ls, lle_rf, h j⟩)
  · cases he : lk_ m.1 pc with
    | none => unfold st_ at hs; rw [he] at hs; exact hs.elim
    | some e =>
      have a0 := st_up hM hl he hs
      have aj : ∀ j, st_ w D (Up_ (Ls_ w D (Qr j) (Qt j) m)) (Qr j) (Qt j) m pc (fg_ e.1 tl) st M := fun j => by
        obtain ⟨l1, h1, h2⟩ := hj j
        obtain ⟨l2, h3, h4⟩ := Ls_inv hM h2
        exact st_up hM (lle_tr h3 h1) he h4
      refine Ls_wk pc tl (fg_ e.1 tl) st M fg_le (Ls_cl hM _ _ _ _ ?_)
      have c := st_cj (ι := Option ι) none hC hM (w := w) (m := m) (pc := pc) (ls := fg_ e.1 tl) (st := st) (M := M) (V := fun o => match o with | none => Up_ _ | some j => Up_ (Ls_ w D (Qr j) (Qt j) m)) (Qr := fun o => match o with | none => Qr i0 | some j => Qr j) (Qt := fun o => match o with | none => Qt i0 | some j => Qt j) (fun o => match o with | none => a0 | some j => aj j)
      refine st_mono hM (fun pc' tl' st' M' g => ?_) (fun vs M g j => g (some j)) (fun r M g j => g (some j)) c
      obtain ⟨l3, h5, h6⟩ := g none
      exact h6 tl' h5 (fun j => g (some j))
theorem Tr_cj {P : pg_} : ∀ d, Cj_ (Tr_ w P d)
  | 0 => fun ι i0 _ _ _ _ _ h => (h i0).elim
  | d + 1 => fun ι i0 a as M Qr Qt h => ⟨(h i0).1, Ls_cj i0 (Tr_cj d) (Tr_mono d) fun j => (h j).2⟩
/-- the outcome: whatever holds behind every run -/
theorem Tr_sp {P : pg_} {d n : Nat} {as : List pv_} {M : mm_} {Qr : qr_} {Qt : qt_} (h : Tr_ w P d n as M Qr Qt) : Tr_ w P d n as M (fun vs M' => Qr vs M' ∧ ∀ (K : qr_) (T : qt_), Tr_ w P d n as M K T → K vs M') (fun r M' => Qt r M' ∧ ∀ (K : qr_) (T : qt_), Tr_ w P d n as M K T → T r M') := by
  have c := Tr_cj (w := w) (P := P) d {q : qr_ × qt_ // Tr_ w P d n as M q.1 q.2} ⟨(Qr, Qt), h⟩ n as M (fun q => q.1.1) (fun q => q.1.2) (fun q => q.2)
  exact Tr_mono d _ _ _ _ _ _ _ (fun vs M g => ⟨g ⟨(Qr, Qt), h⟩, fun K T hk => g ⟨(K, T), hk⟩⟩) (fun r M g => ⟨g ⟨(Qr, Qt), h⟩, fun K T hk => g ⟨(K, T), hk⟩⟩) c
end LSz
end T317_cj
section T318_pj
/-! reads | parse: parts of the join -/
/-- routes behind a clean parse -/
def RT2 (M N : mm_) (r : Int) : Prop := (M 114 (2 * r) = (if N 158 r = 0 then -2 else tpl N (N 158 r)) ∧ N 160 r = (if N 158 r = 0 then -1 else tpl N (N 158 r))) ∧ (M 114 (2 * r + 1) = (if N 159 r = 0 then -2 else tpl N (N 159 r)) ∧ N 161 r = (if N 159 r = 0 then -1 else tpl N (N 159 r))) ∧ (M 119 r = N 164 r ∧ 0 ≤ N 164 r ∧ N 164 r < 1048576)
  ∧ ((M 117 r = 1 ∧ M 115 r = N 162 r ∧ M 116 r = N 163 r ∧ (0 ≤ N 162 r ∧ N 162 r ≤ 200) ∧ (0 ≤ N 163 r ∧ N 163 r ≤ 200)) ∨ (M 117 r = 0 ∧ M 115 r = 0 ∧ M 116 r = 0 ∧ N 162 r = -1 ∧ N 163 r = -1 ∧ M 118 r = 0)) ∧ M 118 r = N 166 r ∧ (N 166 r = 0 ∨ N 166 r = 1)
theorem nm_n [ig : Inhabited gh_] {i x : Nat} {L : List Nat} (h : i ∉ L) (hx : x ∈ L) : i ≠ x := fun e => h (by rw [e]; exact hx)
section PJa
variable {F a ns nr np : Int} {M N M2 N2 N1 : mm_}
theorem SYG_c [ig : Inhabited gh_] (hx : ∀ k : Nat, k ∉ [1, 114, 115, 116, 117, 118, 119] → M2 k = M k) (hq : ∀ k : Nat, k ∉ [6, 160, 161, 164] → N2 k = N k) : ∀ (n : Nat) (a ns nr np : Int), SYG M N n a ns nr np → SYG M2 N2 n a ns nr np
  | 0, a, ns, nr, np, h => by
    have h' : M 70 a = 102 ∧ ns = M 5 0 ∧ nr = M 5 1 ∧ np = M 5 2 := h
    show M2 70 a = 102 ∧ ns = M2 5 0 ∧ nr = M2 5 1 ∧ np = M2 5 2
    rw [hx 70 (by decide), hx 5 (by decide)]; exact h'
  | n + 1, a, ns, nr, np, h => by
    have ty : TYS M N M2 N2 np := TYS_e (fun k hk => hx k (fun e => by simp only [List.mem_cons, List.not_mem_nil, or_false] at hk e; omega)) (fun k hk => hq k (fun e => by simp only [List.mem_cons, List.not_mem_nil, or_false] at hk e; omega))
    have tsg : TSG M2 = TSG M := by unfold TSG; rw [hx 5 (by decide), hx 56 (by decide)]
    have e70 : M2 70 = M 70 := hx 70 (by decide)
    have e73 : M2 73 = M 73 := hx 73 (by decide)
    rcases h with ⟨h0, a', ns', h1, h2⟩ | ⟨h0, m, h1, ⟨h2, h3, h4⟩, h5⟩ | ⟨h0, a', h1, ⟨h2, ah, h3, h4⟩, h5⟩
    · exact .inl ⟨by rw [e70]; exact h0, a', ns', by rw [e70, hx 113 (by decide), hx 112 (by decide), tsg]; exact h1, SYG_c hx hq n _ _ _ _ h2⟩
    · exact .inr (.inl ⟨by rw [e70]; exact h0, m, by rw [e70, e73]; exact h1, ⟨by rw [hx 5 (by decide)]; exact h2, by rw [hx 57 (by decide)]; exact h3, by rw [hx 55 (by decide)]; exact h4⟩, by rw [e70]; exact SYG_c hx hq n _ _ _ _ h5⟩)
    · exact .inr (.inr ⟨by rw [e70]; exact h0, a', by rw [e70, e73, ty.1.1, ty.1.2, ty.2.1.1, ty.2.1.2, ty.2.2.1.1, ty.2.2.2]; exact h1, ⟨by rw [hx 5 (by decide)]; exact h2, ah, by rw [e70, e73, ty.1.2, ty.2.1.1]; exact h3, fun u hu => h4 u ((DCL_c (hx _ (by decide)) (hx _ (by decide)) (hx _ (by decide)) (hx _ (by decide))).1 hu)⟩, SYG_c hx hq n _ _ _ _ h5⟩)
theorem G1A_c [ig : Inhabited gh_] (hx : ∀ k : Nat, k ∉ [1, 114, 115, 116, 117, 118, 119] → M2 k = M k) (h151 : N2 151 = N 151) {F' : Int} (g : G1A F F' M N np) : G1A F F' M2 N2 np := by
  unfold G1A GDU DUN DUM GLM DCL at g ⊢
  rw [hx 5 (by decide), hx 56 (by decide), hx 57 (by decide), hx 58 (by decide), hx 71 (by decide), hx 60 (by decide), hx 61 (by decide), hx 62 (by decide), hx 124 (by decide), hx 126 (by decide), hx 128 (by decide), h151]
  exact g
/-- pass 2 has noted whatever pass 1 noted -/
theorem G1_fin [ig : Inhabited gh_] (gA : G1A 1000000 F M N (M 5 2)) (gR : G1R M N N1 N2 0 (M 5 0) 0 (M 5 1) 0 (M 5 2)) (hk : vk_ (N2 6 13) (N2 6 14)) : kk_ (N2 6 13) (N2 6 14) ≤ F := by
  obtain ⟨_, g1, g2, g3, g4⟩ := gR
  rcases gA with z | ⟨u, v, ⟨z1, z2, z3⟩, z4, z5⟩ | ⟨T, hT, z⟩
  · rw [z]; exact kk_le hk
  · have td : TDW M N v := ⟨u, z1, z3, z4⟩
    rw [z5]
    rcases z2 with ⟨k, hk, e⟩ | ⟨k, hk, e⟩ | ⟨k, hk, e⟩
    · have := g1 k hk.1 hk.2 (by rw [e]; exact td); rw [e] at this; exact this
    · have := g2 k hk.1 hk.2 (by rw [e]; exact td); rw [e] at this; exact this
    · have := g3 k hk.1 hk.2 (by rw [e]; exact td); rw [e] at this; exact this
  · exact g4 T hT.1 hT.2 F z
theorem NR_eq [ig : Inhabited gh_] (h : NR F M N) (hk : kk_ (N 6 13) (N 6 14) ≤ F) : M 1 4 = N 6 13 ∧ (M 1 4 ≠ 0 → M 1 5 = N 6 14) := by
  obtain ⟨n1, n2, n3, _⟩ := h
  have e : kk_ (M 1 4) (M 1 5) = kk_ (N 6 13) (N 6 14) := by omega
  unfold kk_ vk_ at *
  by_cases c1 : M 1 4 = 0
  · rw [if_pos c1] at e
    by_cases c2 : N 6 13 = 0
    · exact ⟨by omega, fun h => absurd c1 h⟩
    · rw [if_neg c2] at e; omega
  · rw [if_neg c1] at e
    by_cases c2 : N 6 13 = 0
    · rw [if_pos c2] at e; omega
    · rw [if_neg c2] at e; omega
theorem FIX_rf [ig : Inhabited gh_] : FIX M N M N := ⟨fun _ _ => rfl, ⟨rfl, rfl, rfl⟩, fun _ _ => rfl, ⟨rfl, rfl, rfl⟩, fun T _ _ => TYS_e (fun _ _ => rfl) (fun _ _ => rfl)⟩
/-- a route's rows: X filled, Q resolved -/
theorem RT2_of [ig : Inhabited gh_] {r : Int} (hT : Tks M N) (h : RRW M N r) (hg : sgl9 M N) (h70 : M2 70 = M 70) (h73 : M2 73 = M 73) (hX : RTX M2 N r (M 55 r)) (hq : ∀ k : Nat, k ∈ [158, 159, 162, 163, 166] → N2 k = N k) (htp : tpl N2 = tpl N) (m : Nat) (hm : LST (M 70) m (dle (M 70) (M 55 r + 5) + 1)) (h164 : N2 164 r = lsv N m (N 165 r) 0)
    (h160 : N2 160 r = (if N 158 r = 0 then -1 else tpl N (N 158 r))) (h161 : N2 161 r = (if N 159 r = 0 then -1 else tpl N (N 159 r))) : RT2 M2 N2 r := by
  obtain ⟨s1, s2, s3, s4, s5⟩ := RT_res hT h hg h70 hX (hq 158 (by decide)) (hq 159 (by decide)) htp m hm h164
  obtain ⟨_, ⟨m', hm'⟩, _, ⟨q2, q3, q4⟩, q5⟩ := h
  obtain ⟨_, ⟨x1, x2, x3, x4⟩, _⟩ := hX
  rw [h70, h73] at x1 x2
  rw [h70] at x3 x4
  have dl := hm'.2.2.2.2.1
  generalize M 55 r + 5 = e at *
  refine ⟨⟨s1, by rw [h160, htp, hq 158 (by decide)]⟩, ⟨s2, by rw [h161, htp, hq 159 (by decide)]⟩, ⟨s3, s4, s5⟩, ?_, ?_, ?_⟩
  · rw [hq 162 (by decide), hq 163 (by decide), q2, q3, x1, x2, x3, x4]
    unfold dlb dlt dmt dl7 dl8 drw
    by_cases c : M 70 e = 24
    · have d := dl c
      rw [if_pos c, if_pos c, if_pos c, if_pos c, if_pos c]
      refine .inl ⟨rfl, rfl, rfl, by omega, ?_⟩
      split
      · rename_i c2; have := d.2 c2; omega
      · omega
    · rw [if_neg c, if_neg c, if_neg c, if_neg c, if_neg c, if_neg c]
      exact .inr ⟨rfl, rfl, rfl, rfl, rfl, rfl⟩
  · rw [hq 166 (by decide), q4, x4]
  · rw [hq 166 (by decide), q4]
    unfold drw
    split
    · split
      · exact .inr rfl
      · exact .inl rfl
    · exact .inl rfl
theorem RTE_gd [ig : Inhabited gh_] {e : Int} {m : Nat} (g0 : gd_ M e) (k0 : M 70 e = 1) (h : RTE (M 70) (M 73) e m) : gd_ M (dle (M 70) (e + 5) + 1) := by
  obtain ⟨ho, o1, ⟨k3, h13⟩, o4, o5, ⟨k6, h16⟩, _⟩ := h
  have n25 : ∀ t, sdO (M 70) t → M 70 t ≠ 102 ∧ M 70 t ≠ 103 := fun t ht => by rcases ht.1 with c | c <;> omega
  have g1 := gd_s g0 (by omega) (by rw [k0]; decide)
  have g2 := gd_s g1 ho.2 (by rw [ho.1]; decide)
  rw [show e + 1 + 1 = e + 2 by omega] at g2
  have g3 := gd_s g2 (by omega) (n25 _ o1)
  rw [show e + 2 + 1 = e + 3 by omega] at g3
  have g4 := gd_s g3 h13 (by rw [k3]; decide)
  rw [show e + 3 + 1 = e + 4 by omega] at g4
  have g5 := gd_s g4 o4.2 (n25 _ o4)
  rw [show e + 4 + 1 = e + 5 by omega] at g5
  refine gd_s ?_ h16 (by rw [k6]; decide)
  unfold dle
  by_cases c : M 70 (e + 5) = 24
  · rw [if_pos c]
    obtain ⟨⟨p1, p2, p3, p4⟩, p5⟩ := o5 c
    have g6 := gd_s g5 (by omega) (by rw [c]; decide)
    have g7 := gd_s g6 p4 (by rw [p1]; decide)
    rw [show e + 5 + 1 + 1 = e + 5 + 2 by omega] at g7
    by_cases c2 : M 70 (e + 5 + 2) = 115
    · rw [if_pos c2]
      obtain ⟨p6, p7, p8, p9⟩ := p5 c2
      have g8 := gd_s g7 (by omega) (by rw [c2]; decide)
      have g9 := gd_s g8 (by omega) (by rw [show e + 5 + 2 + 1 = e + 5 + 3 by omega, p6]; decide)
      rw [show e + 5 + 2 + 1 + 1 = e + 5 + 4 by omega] at g9
      exact g9
    · rw [if_neg c2]; exact g7
  · rw [if_neg c]; exact g5
theorem RT2_fx [ig : Inhabited gh_] {M0 N0 : mm_} {r : Int} (h : RT2 M0 N0 r) (f : FIX M0 N0 M N) : RT2 M N r := by
  obtain ⟨a1, a2, a3, a4, a5⟩ := f
  have tp : tpl N = tpl N0 := tpl_e a4.2.2 (a3 154 (by decide))
  unfold RT2 at h ⊢
  rw [a1 114 (by decide), a1 115 (by decide), a1 116 (by decide), a1 117 (by decide), a1 118 (by decide), a1 119 (by decide), a3 158 (by decide), a3 159 (by decide), a3 160 (by decide), a3 161 (by decide), a3 162 (by decide), a3 163 (by decide), a3 164 (by decide), a3 166 (by decide), tp]
  exact h
/-- the invariant of pass 2, with frames -/
def GRF (M0 N0 : mm_) (M N : mm_) (np nr : Int) : Prop := GRX M N np nr ∧ (XPb M0 M ∧ M 5 36 = M0 5 36) ∧ QPb N0 N
theorem GRF_1 [ig : Inhabited gh_] {M0 N0 : mm_} : IV1 (GRF M0 N0) := fun M N M' N' np nr h hx h1 hq h6 hz => ⟨GRX_1 M N M' N' np nr h.1 hx h1 hq h6 hz, ⟨XPb_tr h.2.1.1 (fun k hk => hx k (fun e => hk (by rw [e]; decide))), by rw [hx 5 (by decide)]; exact h.2.1.2⟩, QPb_tr h.2.2 ⟨fun k hk => hq k (fun e => hk (by unfold QPRr; omega)), fun i hi => h6 i (fun e => hi (by simp only [qpI, List.mem_cons, List.not_mem_nil, or_false] at e ⊢; omega))⟩⟩
theorem GRF_R [ig : Inhabited gh_] {M0 N0 : mm_} : IVR (GRF M0 N0) := fun M N M' N' np nr h hx h1 hq h6 hz => ⟨GRX_R M N M' N' np nr h.1 hx h1 hq h6 hz, ⟨XPb_tr h.2.1.1 (fun k hk => hx k (fun e => hk (by rw [e]; decide))), by rw [hx 5 (by decide)]; exact h.2.1.2⟩, QPb_tr h.2.2 ⟨fun k hk => hq k (fun e => hk (by unfold QPRr; omega)), fun i hi => h6 i (fun e => hi (by simp only [qpI, List.mem_cons, List.not_mem_nil, or_false] at e ⊢; omega))⟩⟩
theorem GRF_2 [ig : Inhabited gh_] {M0 N0 : mm_} : IV2 (GRF M0 N0) := fun F F' M N M' N' Me a a' ns nr np S hnp hI P S' hM => ⟨GRX_2 F F' M N M' N' Me a a' ns nr np S hnp hI.1 P S' hM, by
  obtain ⟨f, c, j, eM, cm⟩ := hM
  have pf := PRO_f S P
  refine ⟨XPb_tr hI.2.1.1 (XPb_tr (PRF_X pf) fun k hk => ?_), by rw [eM, cmX_r (by decide) (by decide) (by decide), pf.2.1 36 (by decide)]; exact hI.2.1.2⟩
  rw [eM]
  exact cmX_r (fun e => hk (by rw [e]; decide)) (fun e => hk (by rw [e]; decide)) (fun e => hk (by rw [e]; decide)), QPb_tr hI.2.2 (PRF_Q (PRO_f S P))⟩
end PJa
end T318_pj
section T318_th
/-! what Q's value of a name's token is, by X's text (role 2) -/
theorem Tks_h {Mx Mq : mm_} {g : Int → Int} {n : Int} {m m' : Nat} (hn0 : 0 ≤ n) (hn : n ≤ 5000) (hb : ∀ i, 0 ≤ i → i < 5000 → -128 ≤ Mx 69 i ∧ Mx 69 i ≤ 127) (hag : Ag_ g (Mx 69) n) (hT : TX_ Mx (Mx 69) n m) (hm1 : 1 ≤ m) (hm2 : kd_ (Mx 69) n (m - 1) = 102 ∨ m = 1202) (hQ : QT_ Mq g n m') : ∀ i, gd_ Mx i → Mx 70 i = 100 → Mq 151 i = hs_ (Mx 69) (Mx 71 i) (Mx 72 i - Mx 71 i).toNat ∧ (∀ j : Nat, j < (Mx 72 i - Mx 71 i).toNat → 0 < cd_ (Mx 69 (Mx 71 i + j) % 256)) ∧ 1 ≤ Mx 72 i - Mx 71 i ∧ Mx 72 i - Mx 71 i ≤ 10 := by
  have hps : ∀ i, ps_ g n i = ps_ (Mx 69) n i := ps_ag hag hn0
  have hX : ∀ i : Nat, (i : Int) ≤ 1200 → (∀ j : Int, 0 ≤ j → j < i → Mx 70 j ≠ 102 ∧ Mx 70 j ≠ 103) → i < m := by
    intro i hi hj
    refine Classical.byContradiction fun h => ?_
    rcases hm2 with h1 | h1
    · have h2 := (hT (m - 1) (by omega)).2.1
      have := (hj ((m - 1 : Nat) : Int) (by omega) (by omega)).1
      rw [h2, h1] at this
      exact this rfl
    · omega
  have hK : ∀ i : Nat, (i : Int) ≤ 1200 → (∀ j : Int, 0 ≤ j → j < i → Mx 70 j ≠ 102 ∧ Mx 70 j ≠ 103) → ∀ k : Nat, k < i → kd_ (Mx 69) n k ≠ 102 ∧ kd_ (Mx 69) n k ≠ 103 := by
    intro i hi hj k hk
    have h1 := hX i hi hj
    have h2 := (hT k (by omega)).2.1
    have := hj k (by omega) (by omega)
    rw [h2] at this
    exact this
  have hqq : ∀ i : Nat, (i : Int) ≤ 1200 → (∀ j : Int, 0 ≤ j → j < i → Mx 70 j ≠ 102 ∧ Mx 70 j ≠ 103) → i < m' := by
    intro i hi hj
    refine Classical.byContradiction fun h => ?_
    obtain ⟨h1, h2, h3, h4, h5⟩ := hQ
    have h6 := hK i hi hj (m' - 1) (by omega)
    rw [hps] at h5
    have h7 : ps_ (Mx 69) n (m' - 1) < n := Classical.byContradiction fun h8 => h6.1 (kd_102.mpr h8)
    rcases h5 with h5 | h5 | h5
    · exact h5 h7
    · have h8 := kq_at (f := Mx 69) h7
      rw [qo_ag hag (ps_r (Mx 69) n hn0 _).1 h7] at h5
      rw [h5] at h8
      unfold KQ at h8
      have : (tkk_ (Mx 69) n (ps_ (Mx 69) n (m' - 1))).1 = 103 := by omega
      exact h6.2 this
    · omega
  have hY : ∀ i : Nat, gd_ Mx i → Mx 71 i = ps_ (Mx 69) n i ∧ Mx 70 i = kd_ (Mx 69) n i ∧ Mx 72 i = en9_ (Mx 69) n i ∧ (dg_ (by_ (Mx 69) n (ps_ (Mx 69) n i)) = 1 → Mx 73 i = uv_ (Mx 69) (ps_ (Mx 69) n i) (ue_ (Mx 69) n (ps_ (Mx 69) n i) - ps_ (Mx 69) n i).toNat) ∧ Mq 150 i = ps_ (Mx 69) n i ∧ KQ (kd_ (Mx 69) n i) (Mq 149 i) (Mq 151 i) ∧ (ps_ (Mx 69) n i < n → Mq 151 i = (qo_ (Mx 69) n (ps_ (Mx 69) n i)).2.1) ∧ (∀ k : Nat, k < i → kd_ (Mx 69) n k ≠ 102) := by
    intro i hi
    have h1 := hT i (hX i hi.2.1 hi.2.2)
    have h2 := hQ.1 i (hqq i hi.2.1 hi.2.2)
    rw [hps] at h2
    refine ⟨h1.1, h1.2.1, h1.2.2.1, h1.2.2.2, h2.1, ?_, ?_, fun k hk => (hK i hi.2.1 hi.2.2 k hk).1⟩
    · by_cases h3 : ps_ (Mx 69) n i < n
      · have h4 := h2.2.1 h3
        rw [qo_ag hag (ps_r (Mx 69) n hn0 _).1 h3] at h4
        rw [h4.1, h4.2]; exact kq_at h3
      · rw [(h2.2.2 h3).1]
        have : kd_ (Mx 69) n i = 102 := kd_102.mpr h3
        rw [this]; exact .inr (.inr (.inl ⟨rfl, rfl⟩))
    · intro h3
      have h4 := h2.2.1 h3
      rw [qo_ag hag (ps_r (Mx 69) n hn0 _).1 h3] at h4
      exact h4.2
  intro i hi h1
  obtain ⟨i', rfl⟩ := Int.eq_ofNat_of_zero_le hi.1
  have h := hY i' hi
  rw [h.2.1] at h1
  have h2 := nm_at h1
  rw [h.2.2.2.2.2.2.1 h2.2.1, h2.2.2.2.2, h.1, h.2.2.1]
  unfold en9_
  rw [h2.2.2.1]
  have h3 : ps_ (Mx 69) n i' + 1 ≤ ne_ (Mx 69) n (ps_ (Mx 69) n i') := by
    rw [ne_, dif_pos (cd_w h2.1)]; exact ne_ge _ _ _
  exact ⟨rfl, fun j hj => (ne_in (Mx 69) n (ps_ (Mx 69) n i') _ (by omega) (by omega)).1, by omega, by omega⟩


def TKN (M N : mm_) : Prop := ∀ i, gd_ M i → M 70 i = 100 → N 151 i = hs_ (M 69) (M 71 i) (M 72 i - M 71 i).toNat ∧ (∀ j : Nat, j < (M 72 i - M 71 i).toNat → 0 < cd_ (M 69 (M 71 i + j) % 256)) ∧ 1 ≤ M 72 i - M 71 i ∧ M 72 i - M 71 i ≤ 10
theorem TKN_c {M N M' N' : mm_} (h : TKN M N) (hx : ∀ r : Nat, 69 ≤ r → r ≤ 72 → M' r = M r) (hq : N' 151 = N 151) : TKN M' N' := by
  intro i g e
  have g' : gd_ M i := by unfold gd_ at g ⊢; rw [hx 70 (by decide) (by decide)] at g; exact g
  rw [hx 70 (by decide) (by decide)] at e
  rw [hx 69 (by decide) (by decide), hx 71 (by decide) (by decide), hx 72 (by decide) (by decide), hq]
  exact h i g' e
end T318_th
