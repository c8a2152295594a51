section T128_sy
/-! where parts and decides end, and how many labels they have -/
abbrev sj_ : Type := Int × Int
def lk9 {σ ρ : Type} (k : σ → Option ρ) : σ ⊕ ρ → Option ρ
  | .inl s => k s
  | .inr a => some a
def lqS {σ ρ : Type} (step : σ → Option (σ ⊕ ρ)) : Nat → σ → Option ρ
  | 0, _ => none
  | n + 1, s => (step s).bind (lk9 (lqS step n))
def LQ {σ ρ : Type} (step : σ → Option (σ ⊕ ρ)) (s : σ) : Option ρ := lqS step 1300 s
theorem lqS_in [Inhabited gh_] {σ ρ : Type} {step : σ → Option (σ ⊕ ρ)} (π : σ → Int) (h : ∀ s s', 0 ≤ π s → π s ≤ 1200 → step s = some (.inl s') → π s + 1 ≤ π s' ∧ π s' ≤ 1200) : ∀ (n m : Nat) (s : σ), 0 ≤ π s → π s ≤ 1200 → 1201 - π s ≤ n → 1201 - π s ≤ m → lqS step n s = lqS step m s
  | 0, _, s, _, _, _, _ => by omega
  | _ + 1, 0, s, _, _, _, _ => by omega
  | n + 1, m + 1, s, h0, h1, h2, h3 => by
    unfold lqS
    cases hs : step s with
    | none => rfl
    | some r =>
      cases r with
      | inr a => rfl
      | inl s' =>
        have := h s s' h0 h1 hs
        exact lqS_in π h n m s' (by omega) (by omega) (by omega) (by (clear h h0 h1 h2 hs; lia))
theorem LQ_u [Inhabited gh_] {σ ρ : Type} {step : σ → Option (σ ⊕ ρ)} (π : σ → Int) (h : ∀ s s', 0 ≤ π s → π s ≤ 1200 → step s = some (.inl s') → π s + 1 ≤ π s' ∧ π s' ≤ 1200) {s : σ} (h0 : 0 ≤ π s) (h1 : π s ≤ 1200) : LQ step s = (step s).bind (lk9 (LQ step)) := by
  unfold LQ
  rw [lqS_in π h 1300 1301 s h0 h1 (by omega) (by omega)]
  rfl
theorem lqS_r [Inhabited gh_] {σ ρ : Type} {step : σ → Option (σ ⊕ ρ)} (π : σ → Int) (π' : ρ → Int) (h : ∀ s s', 0 ≤ π s → π s ≤ 1200 → step s = some (.inl s') → π s + 1 ≤ π s' ∧ π s' ≤ 1200) (h' : ∀ s a, 0 ≤ π s → π s ≤ 1200 → step s = some (.inr a) → π s ≤ π' a ∧ π' a ≤ 1200) : ∀ (n : Nat) (s : σ) (a : ρ), 0 ≤ π s → π s ≤ 1200 → lqS step n s = some a → π s ≤ π' a ∧ π' a ≤ 1200
  | 0, s, a, _, _, e => by cases e
  | n + 1, s, a, h0, h1, e => by
    unfold lqS at e
    cases hs : step s with
    | none => rw [hs] at e; cases e
    | some r =>
      rw [hs] at e
      cases r with
      | inr a' => cases e; exact h' s _ h0 h1 hs
      | inl s' =>
        have := h s s' h0 h1 hs
        have := lqS_r π π' h h' n s' a (by (clear h h' e hs; omega)) (by omega) e
        omega
def jc_ (g : sj_ → Option sj_) : Prop := ∀ s r, 0 ≤ s.1 → s.1 ≤ 1200 → g s = some r → s.1 + 1 ≤ r.1 ∧ r.1 ≤ 1200
def jw_ (g : sj_ → Option sj_) : Prop := ∀ s r, 0 ≤ s.1 → s.1 ≤ 1200 → g s = some r → s.1 ≤ r.1 ∧ r.1 ≤ 1200
def dcT1 (κ : Int → Int) (pt : sj_ → Option sj_) (s : sj_ × Int) : Option ((sj_ × Int) ⊕ sj_) :=
  if s.2 = 8 then none else (rgS κ s.1.1).bind fun a1 => if κ a1 = 244 then (gS a1).bind fun a2 => some (.inl ((a2, s.1.2), s.2 + 1)) else (tS κ 258 a1).bind fun a2 => (pt (a2, s.1.2)).bind fun s3 => if isR κ s3.1 then some (.inl (s3, s.2 + 1)) else some (.inr s3)
def elT (κ : Int → Int) (pt : sj_ → Option sj_) (s : sj_) : Option sj_ := (if κ s.1 = 19 then (gS s.1).bind fun a1 => (tS κ 258 a1).bind fun a2 => pt (a2, s.2) else some s).bind fun s2 => (tS κ 20 s2.1).bind fun a3 => some (a3, s2.2)
def dcT (κ : Int → Int) (pt : sj_ → Option sj_) (o : Int) (s : sj_) : Option sj_ :=
  if o = 12 then none else (gS s.1).bind fun a1 => (ES κ 0 (o + 1) a1).bind fun a2 => (tS κ 259 a2).bind fun a3 => (LQ (dcT1 κ pt) ((a3, s.2), 0)).bind (elT κ pt)
def nxT (κ : Int → Int) (s : sj_) : Option (sj_ ⊕ sj_) := if isA κ s.1 ∨ isL κ s.1 then some (.inl s) else some (.inr s)
def ptT1 (κ : Int → Int) (lm : Int → Int → Bool) (dec : sj_ → Option sj_) (o : Int) (s : sj_) : Option (sj_ ⊕ sj_) :=
  if isN κ s.1 then (if lm s.2 s.1 then (gS s.1).bind fun a1 => (gS a1).bind fun a2 => some (.inl (a2, s.2 + 1)) else none)
  else if isL κ s.1 then (laS κ s.1).bind fun a1 => some (.inr (a1, s.2))
  else if κ s.1 = 18 then (dec s).bind fun s1 => (tS κ 259 s1.1).bind fun a2 => nxT κ (a2, s1.2)
  else if isA κ s.1 then (acS κ (fun _ => none) o s.1).bind fun a1 => nxT κ (a1, s.2)
  else none
def ptT (κ : Int → Int) (lm : Int → Int → Bool) (dec : sj_ → Option sj_) (o : Int) (s : sj_) : Option sj_ := if isA κ s.1 ∨ isL κ s.1 then LQ (ptT1 κ lm dec o) s else some s
def PTj (κ : Int → Int) (lm : Int → Int → Bool) : Nat → sj_ → Option sj_
  | 0 => ptT κ lm (dcT κ (fun _ => none) 12) 12
  | n + 1 => ptT κ lm (dcT κ (PTj κ lm n) (11 - (n : Int))) (11 - (n : Int))
def DCj (κ : Int → Int) (lm : Int → Int → Bool) : Nat → sj_ → Option sj_
  | 0 => dcT κ (fun _ => none) 12
  | n + 1 => dcT κ (PTj κ lm n) (11 - (n : Int))
section SJ
variable {κ : Int → Int} {lm : Int → Int → Bool} {o a : Int} {dec pt : sj_ → Option sj_} {s s' : sj_}
theorem PTj_e [Inhabited gh_] (n : Nat) : PTj κ lm n = ptT κ lm (DCj κ lm n) (12 - (n : Int)) := by
  cases n with
  | zero => rfl
  | succ n =>
    have e : (12 : Int) - ((n + 1 : Nat) : Int) = 11 - (n : Int) := by omega
    rw [e]; rfl
theorem dcT1_l [Inhabited gh_] (hp : jw_ pt) (s s' : sj_ × Int) (h0 : 0 ≤ s.1.1) (h1 : s.1.1 ≤ 1200) (h : dcT1 κ pt s = some (.inl s')) : s.1.1 + 1 ≤ s'.1.1 ∧ s'.1.1 ≤ 1200 := by
  unfold dcT1 at h
  split at h
  · cases h
  · cases hg : rgS κ s.1.1 with
    | none => rw [hg] at h; cases h
    | some a1 =>
      rw [hg] at h; simp only [Option.bind_some] at h
      have e1 := inc_rg _ _ h0 h1 hg
      split at h
      · cases ht : gS a1 with
        | none => rw [ht] at h; cases h
        | some a2 => rw [ht] at h; cases h; have e3 := gS_s ht; simp only []; (clear hp h0 h1 hg ht; omega)
      · cases ht : tS κ 258 a1 with
        | none => rw [ht] at h; cases h
        | some a2 =>
          rw [ht] at h; simp only [Option.bind_some] at h
          have e3 := tS_s ht
          cases hq : pt (a2, s.1.2) with
          | none => rw [hq] at h; cases h
          | some a3 =>
            rw [hq] at h; simp only [Option.bind_some] at h
            have e4 := hp (a2, s.1.2) a3 (by simp only []; (clear hp hg ht h hq; omega)) (by simp only []; omega) hq
            simp only [] at e4
            split at h
            · cases h; simp only []; omega
            · cases h
theorem dcT1_r [Inhabited gh_] (hp : jw_ pt) (s : sj_ × Int) (r : sj_) (h0 : 0 ≤ s.1.1) (h1 : s.1.1 ≤ 1200) (h : dcT1 κ pt s = some (.inr r)) : s.1.1 + 1 ≤ r.1 ∧ r.1 ≤ 1200 := by
  unfold dcT1 at h
  split at h
  · cases h
  · cases hg : rgS κ s.1.1 with
    | none => rw [hg] at h; cases h
    | some a1 =>
      rw [hg] at h; simp only [Option.bind_some] at h
      have e1 := inc_rg _ _ h0 h1 hg
      split at h
      · cases ht : gS a1 with
        | none => rw [ht] at h; cases h
        | some a2 => rw [ht] at h; cases h
      · cases ht : tS κ 258 a1 with
        | none => rw [ht] at h; cases h
        | some a2 =>
          rw [ht] at h; simp only [Option.bind_some] at h
          have e3 := tS_s ht
          cases hq : pt (a2, s.1.2) with
          | none => rw [hq] at h; cases h
          | some a3 =>
            rw [hq] at h; simp only [Option.bind_some] at h
            have e4 := hp (a2, s.1.2) a3 (by simp only []; omega) (by simp only []; omega) hq
            simp only [] at e4
            split at h
            · cases h
            · cases h; (clear hp h0 h1 hg ht hq; omega)
theorem dcT_u [Inhabited gh_] (hp : jw_ pt) {s : sj_ × Int} (h0 : 0 ≤ s.1.1) (h1 : s.1.1 ≤ 1200) : LQ (dcT1 κ pt) s = (dcT1 κ pt s).bind (lk9 (LQ (dcT1 κ pt))) := LQ_u (step := dcT1 κ pt) (fun s => s.1.1) (fun s s' => dcT1_l hp s s') h0 h1
theorem jw_el [Inhabited gh_] (hp : jw_ pt) : jw_ (elT κ pt) := fun s r h0 h1 e => by
  unfold elT at e
  have fin : ∀ s2 : sj_, s.1 ≤ s2.1 → s2.1 ≤ 1200 → ((tS κ 20 s2.1).bind fun a3 => some (a3, s2.2)) = some r → s.1 ≤ r.1 ∧ r.1 ≤ 1200 := by
    intro s2 g1 g2 g3
    cases ht : tS κ 20 s2.1 with
    | none => rw [ht] at g3; cases g3
    | some a3 => rw [ht] at g3; cases g3; have := tS_s ht; simp only []; omega
  split at e
  · cases hg : gS s.1 with
    | none => rw [hg] at e; cases e
    | some a1 =>
      rw [hg] at e; simp only [Option.bind_some] at e
      have e1 := gS_s hg
      cases ht : tS κ 258 a1 with
      | none => rw [ht] at e; cases e
      | some a2 =>
        rw [ht] at e; simp only [Option.bind_some] at e
        have e2 := tS_s ht
        cases hq : pt (a2, s.2) with
        | none => rw [hq] at e; cases e
        | some s2 =>
          rw [hq] at e; simp only [Option.bind_some] at e
          have e3 := hp (a2, s.2) s2 (by simp only []; (clear hp fin hg ht e hq; omega)) (by simp only []; omega) hq
          simp only [] at e3
          exact fin s2 (by omega) (by omega) e
  · simp only [Option.bind_some] at e
    exact fin s (by omega) h1 e
theorem jc_dc [Inhabited gh_] (hp : jw_ pt) : jc_ (dcT κ pt o) := fun s r h0 h1 e => by
  unfold dcT at e
  split at e
  · cases e
  · cases hg : gS s.1 with
    | none => rw [hg] at e; cases e
    | some a1 =>
      rw [hg] at e; simp only [Option.bind_some] at e
      have e1 := gS_s hg
      cases he : ES κ 0 (o + 1) a1 with
      | none => rw [he] at e; cases e
      | some a2 =>
        rw [he] at e; simp only [Option.bind_some] at e
        have e2 := ES_gt (by omega) he (by omega)
        cases ht : tS κ 259 a2 with
        | none => rw [ht] at e; cases e
        | some a3 =>
          rw [ht] at e; simp only [Option.bind_some] at e
          have e3 := tS_s ht
          generalize hl : LQ (dcT1 κ pt) ((a3, s.2), 0) = L at e
          cases L with
          | none => cases e
          | some s4 =>
            simp only [Option.bind_some] at e
            have e4 := lqS_r (step := dcT1 κ pt) (fun s => s.1.1) (fun s => s.1) (fun s s' => dcT1_l hp s s') (fun s r h0 h1 h => by have := dcT1_r hp s r h0 h1 h; omega) 1300 ((a3, s.2), 0) s4 (by simp only []; omega) (by simp only []; omega) hl
            simp only [] at e4
            have e5 := jw_el hp s4 r (by omega) (by omega) e
            omega
theorem nxT_l [Inhabited gh_] (h : nxT κ s = some (.inl s')) : s' = s := by
  unfold nxT at h; split at h
  · cases h; rfl
  · cases h
theorem nxT_r [Inhabited gh_] (h : nxT κ s = some (.inr s')) : s' = s := by
  unfold nxT at h; split at h
  · cases h
  · cases h; rfl
theorem ptT1_b [Inhabited gh_] (hp : jc_ dec) (s : sj_) (r : sj_ ⊕ sj_) (h0 : 0 ≤ s.1) (h1 : s.1 ≤ 1200) (h : ptT1 κ lm dec o s = some r) : ∀ s', (r = .inl s' ∨ r = .inr s') → s.1 + 1 ≤ s'.1 ∧ s'.1 ≤ 1200 := by
  intro s' hr
  have nx : ∀ t : sj_, s.1 + 1 ≤ t.1 → t.1 ≤ 1200 → nxT κ t = some r → s.1 + 1 ≤ s'.1 ∧ s'.1 ≤ 1200 := by
    intro t g1 g2 g3
    rcases hr with e | e
    · rw [e] at g3; rw [nxT_l g3]; exact ⟨g1, g2⟩
    · rw [e] at g3; rw [nxT_r g3]; exact ⟨g1, g2⟩
  unfold ptT1 at h
  split at h
  · split at h
    · cases hg : gS s.1 with
      | none => rw [hg] at h; cases h
      | some a1 =>
        rw [hg] at h; simp only [Option.bind_some] at h
        have e1 := gS_s hg
        cases ht : gS a1 with
        | none => rw [ht] at h; cases h
        | some a2 =>
          rw [ht] at h; cases h; have e3 := gS_s ht
          rcases hr with e | e <;> cases e
          simp only []; omega
    · cases h
  · split at h
    · cases hg : laS κ s.1 with
      | none => rw [hg] at h; cases h
      | some a1 =>
        rw [hg] at h; cases h
        have e1 := inc_la _ _ h0 h1 hg
        rcases hr with e | e <;> cases e
        simp only []; omega
    · split at h
      · cases hg : dec s with
        | none => rw [hg] at h; cases h
        | some s1 =>
          rw [hg] at h; simp only [Option.bind_some] at h
          have e1 := hp s s1 h0 h1 hg
          cases ht : tS κ 259 s1.1 with
          | none => rw [ht] at h; cases h
          | some a2 =>
            rw [ht] at h; simp only [Option.bind_some] at h
            have e2 := tS_s ht
            exact nx (a2, s1.2) (by simp only []; omega) (by simp only []; omega) h
      · split at h
        · cases hg : acS κ (fun _ => none) o s.1 with
          | none => rw [hg] at h; cases h
          | some a1 =>
            rw [hg] at h; simp only [Option.bind_some] at h
            have e1 := inc_ac inc_n _ _ h0 h1 hg
            exact nx (a1, s.2) (by simp only []; omega) (by simp only []; omega) h
        · cases h
theorem ptT_u [Inhabited gh_] (hp : jc_ dec) (h0 : 0 ≤ s.1) (h1 : s.1 ≤ 1200) : LQ (ptT1 κ lm dec o) s = (ptT1 κ lm dec o s).bind (lk9 (LQ (ptT1 κ lm dec o))) := LQ_u (step := ptT1 κ lm dec o) (fun s => s.1) (fun s s' a b h => ptT1_b hp s _ a b h s' (.inl rfl)) h0 h1
theorem jw_pt [Inhabited gh_] (hp : jc_ dec) : jw_ (ptT κ lm dec o) := fun s r h0 h1 e => by
  unfold ptT at e
  split at e
  · exact lqS_r (step := ptT1 κ lm dec o) (fun s => s.1) (fun s => s.1) (fun s s' a b h => ptT1_b hp s _ a b h s' (.inl rfl)) (fun s r h0 h1 h => by have := ptT1_b hp s _ h0 h1 h r (.inr rfl); omega) 1300 s r h0 h1 e
  · cases e; omega
theorem jw_n [Inhabited gh_] : jw_ (fun _ => none) := fun s r _ _ e => by cases e
theorem jw_PTj [Inhabited gh_] : ∀ n, jw_ (PTj κ lm n) ∧ jc_ (DCj κ lm n)
  | 0 => ⟨jw_pt (jc_dc jw_n), jc_dc jw_n⟩
  | n + 1 => ⟨jw_pt (jc_dc (jw_PTj n).1), jc_dc (jw_PTj n).1⟩
end SJ
end T128_sy
section T129_pg
/-! programs: X's steps and Q's ops -/
abbrev pl_ : Type := Int → Prop
def RNG (Mx Mq : mm_) (c g q : Int) : Prop := Mx 142 c = Mq 216 g ∧ Mx 142 (c + 1) = Mq 217 g ∧ Mq 218 g = q
/-- n + 1 ranges, the first g, the last l, told from c on -/
def RGL (Mx Mq : mm_) (q r0 r1 : Int) : Nat → Int → Int → Int → Prop
  | 0, c, g, l => g = l ∧ (r0 ≤ g ∧ g < r1) ∧ RNG Mx Mq c g q
  | n + 1, c, g, l => (r0 ≤ g ∧ g < r1) ∧ RNG Mx Mq c g q ∧ g < Mq 219 g ∧ RGL Mx Mq q r0 r1 n (c + 2) (Mq 219 g) l
/-- a part of a decide k: its check at c, its ranges from g up to l; the next check at ce -/
def PT1 (Mx Mq : mm_) (px : Int → Int) (L : pl_) (lo hi r0 r1 k k1 c g ce l : Int) : Prop := ∃ (n : Nat) (q : Int), (lo ≤ c ∧ c + 2 * n + 5 ≤ hi) ∧ Mx 142 c = 43 ∧ Mx 142 (c + 1) = n + 1 ∧ RGL Mx Mq q r0 r1 n (c + 2) g l ∧ px q = c + 2 * n + 5 ∧ (k < q ∧ q ≤ k1) ∧ L q ∧ Mx 142 (c + 2 * n + 4) = ce
def CHN (Mx Mq : mm_) (px : Int → Int) (L : pl_) (lo hi r0 r1 k k1 : Int) : Nat → Int → Int → Prop
  | 0, c, g => (lo ≤ c ∧ c + 1 ≤ hi) ∧ g = -1 ∧ Mx 142 c = 44 ∧ ∃ q, q = (if 0 ≤ Mq 207 k then Mq 207 k else Mq 208 k) ∧ c + 1 = px q ∧ (k < q ∧ q ≤ k1) ∧ L q
  | m + 1, c, g => ∃ ce l, PT1 Mx Mq px L lo hi r0 r1 k k1 c g ce l ∧ CHN Mx Mq px L lo hi r0 r1 k k1 m ce (Mq 219 l)
def CHP (Mx Mq : mm_) (px : Int → Int) (L : pl_) (lo hi r0 r1 k k1 : Int) : Nat → Int → Int → Int → Int → Prop
  | 0, c, g, ce, l => PT1 Mx Mq px L lo hi r0 r1 k k1 c g ce l
  | m + 1, c, g, ce, l => ∃ c1 l1, PT1 Mx Mq px L lo hi r0 r1 k k1 c g c1 l1 ∧ l1 < Mq 219 l1 ∧ CHP Mx Mq px L lo hi r0 r1 k k1 m c1 (Mq 219 l1) ce l
/-- an op k and X's steps -/
def OPX (Mx Mq : mm_) (px : Int → Int) (L : pl_) (T lo hi r0 r1 k1 fe k : Int) : Prop :=
  ((1 ≤ Mq 203 k ∧ Mq 203 k ≠ 6 ∧ Mq 203 k ≠ 7) ∧ Mx 142 (px k) = 30 ∧ Mx 142 (px k + 1) = Mq 204 k ∧ OPC Mx Mq T k (px k + 2) (px (k + 1)) fe ∧ (Mq 203 k ≤ 5 → L k → L (k + 1)))
  ∨ (Mq 203 k = 7 ∧ Mx 142 (px k) = 38 ∧ Mx 142 (px k + 1) = px (Mq 205 k) ∧ (k < Mq 205 k ∧ Mq 205 k ≤ k1) ∧ px k + 2 ≤ hi ∧ (L k → L (Mq 205 k)))
  ∨ (Mq 203 k = 6 ∧ Mx 142 (px k) = 30 ∧ Mx 142 (px k + 1) = Mq 204 k ∧ ∃ c1 t m, (t = 1 ∨ t = 2) ∧ EXP Mx Mq T (px k + 2) c1 (Mq 205 k) fe t ∧ c1 ≤ hi ∧ CHN Mx Mq px L lo hi r0 r1 k k1 (m + 1) c1 (Mq 206 k))
  ∨ (Mq 203 k = 7 ∧ px k = px (Mq 205 k) ∧ (k < Mq 205 k ∧ Mq 205 k ≤ k1) ∧ (L k → L (Mq 205 k)))
/-- a run of ops from k0 up to k1, of steps from c0 up to c1; labels from j0 up to j1; v: it ends -/
def SEG (Mx Mq : mm_) (T k0 k1 c0 c1 r0 r1 fe j0 j1 v : Int) : Prop := ∃ (px : Int → Int) (L : pl_), (px k0 = c0 ∧ px k1 = c1 ∧ ∀ k, k0 ≤ k → k ≤ k1 → c0 ≤ px k ∧ px k ≤ c1) ∧ (L k0 ∧ (∀ k, L k → k0 ≤ k ∧ k ≤ k1) ∧ (v = 1 → ¬ L k1))
  ∧ (∀ k, k0 ≤ k → k < k1 → OPX Mx Mq px L T c0 c1 r0 r1 k1 fe k) ∧ (∀ l, j0 ≤ l → l < j1 → Mx 129 (10 * T + l) = px (Mq 188 (10 * T + l)) ∧ L (Mq 188 (10 * T + l)) ∧ Mq 188 (10 * T + l) < k1)
section PG
variable {Mx Mq Mx' Mq' : mm_} {px px' : Int → Int} {L L' : pl_} {T lo hi lo' hi' r0 r1 r0' r1' k k0 k1 k1' fe fe' c g ce l q : Int}
theorem RNG_c [Inhabited gh_] (h : RNG Mx Mq c g q) (hx : Mx' 142 c = Mx 142 c ∧ Mx' 142 (c + 1) = Mx 142 (c + 1)) (hq : Mq' 216 g = Mq 216 g ∧ Mq' 217 g = Mq 217 g ∧ Mq' 218 g = Mq 218 g) : RNG Mx' Mq' c g q := by
  unfold RNG at *
  rw [hx.1, hx.2, hq.1, hq.2.1, hq.2.2]; exact h
theorem RGL_le [Inhabited gh_] : ∀ (n : Nat) {c g l : Int}, RGL Mx Mq q r0 r1 n c g l → r0 ≤ g ∧ g ≤ l ∧ l < r1
  | 0, c, g, l, h => by have := h.1; have := h.2.1; (clear h; omega)
  | n + 1, c, g, l, h => by have := RGL_le n h.2.2.2; have := h.1; have := h.2.2.1; (clear h; omega)
theorem RGL_c [Inhabited gh_] (hr0 : r0' ≤ r0) (hr1 : r1 ≤ r1') : ∀ (n : Nat) {c g l : Int}, RGL Mx Mq q r0 r1 n c g l → (∀ i, c ≤ i → i < c + 2 * n + 2 → Mx' 142 i = Mx 142 i) → (∀ i, g ≤ i → i ≤ l → Mq' 216 i = Mq 216 i ∧ Mq' 217 i = Mq 217 i ∧ Mq' 218 i = Mq 218 i) → (∀ i, g ≤ i → i < l → Mq' 219 i = Mq 219 i) → RGL Mx' Mq' q r0' r1' n c g l
  | 0, c, g, l, h, hx, hq, _ => ⟨h.1, by have := h.2.1; omega, RNG_c h.2.2 ⟨hx c (by omega) (by omega), hx (c + 1) (by omega) (by omega)⟩ (hq g (by omega) (by have := h.1; omega))⟩
  | n + 1, c, g, l, h, hx, hq, hn => by
    have le := RGL_le n h.2.2.2
    have hg := h.2.2.1
    have e := hn g (by omega) (by omega)
    refine ⟨by have := h.1; (clear h hx hq hn le hg e; omega), RNG_c h.2.1 ⟨hx c (by omega) (by (clear hr0 hr1 h hx hq hn le hg e; lia)), hx (c + 1) (by omega) (by omega)⟩ (hq g (by (clear hr0 hr1 h hx hq hn le hg e; lia)) (by (clear hr0 hr1 h hx hq hn; omega))), by rw [e]; exact hg, ?_⟩
    rw [e]
    exact RGL_c hr0 hr1 n h.2.2.2 (fun i a b => hx i (by omega) (by omega)) (fun i a b => hq i (by omega) b) (fun i a b => hn i (by omega) b)
/-- one range more -/
theorem RGL_a [Inhabited gh_] : ∀ (n : Nat) {c g l : Int}, RGL Mx Mq q r0 r1 n c g l → l < Mq 219 l → Mq 219 l < r1 → RNG Mx Mq (c + 2 * n + 2) (Mq 219 l) q → RGL Mx Mq q r0 r1 (n + 1) c g (Mq 219 l)
  | 0, c, g, l, h, h1, h2, h3 => by
    have e : g = l := h.1
    have b := h.2.1
    refine ⟨h.2.1, h.2.2, by rw [e]; exact h1, by rw [e], by rw [e]; (clear h h3; lia), ?_⟩
    rw [e]
    rw [show c + 2 * ((0 : Nat) : Int) + 2 = c + 2 by (clear h h1 h2 h3 e b; lia)] at h3; exact h3
  | n + 1, c, g, l, h, h1, h2, h3 => ⟨h.1, h.2.1, h.2.2.1, RGL_a n h.2.2.2 h1 h2 (by rw [show c + 2 + 2 * (n : Int) + 2 = c + 2 * ((n + 1 : Nat) : Int) + 2 by (clear h h1 h2 h3; lia)]; exact h3)⟩
theorem PT1_le [Inhabited gh_] (h : PT1 Mx Mq px L lo hi r0 r1 k k1 c g ce l) : r0 ≤ g ∧ g ≤ l ∧ l < r1 := by
  obtain ⟨n, q, h1, h2, h3, h4, h5⟩ := h
  exact RGL_le n h4
theorem PT1_c [Inhabited gh_] (h : PT1 Mx Mq px L lo hi r0 r1 k k1 c g ce l) (hlo : lo' ≤ lo) (hhi : hi ≤ hi') (hr0 : r0' ≤ r0) (hr1 : r1 ≤ r1') (hk : k1 ≤ k1') (hpx : ∀ i, k < i → i ≤ k1 → px' i = px i) (hL : ∀ i, L i → L' i)
    (hx : ∀ i, lo ≤ i → i < hi → Mx' 142 i = Mx 142 i) (hq : ∀ i, g ≤ i → i ≤ l → Mq' 216 i = Mq 216 i ∧ Mq' 217 i = Mq 217 i ∧ Mq' 218 i = Mq 218 i) (hn : ∀ i, g ≤ i → i < l → Mq' 219 i = Mq 219 i) : PT1 Mx' Mq' px' L' lo' hi' r0' r1' k k1' c g ce l := by
  obtain ⟨n, q, h1, h2, h3, h4, h5, h6, h7, h8⟩ := h
  exact ⟨n, q, by (clear hr0 hr1 hk hpx hL hx hq hn h2 h4 h6 h7 h8; lia), by rw [hx c (by (clear hlo hhi hr0 hr1 hk hpx hL hx hq hn h2 h4 h6 h7 h8; lia)) (by (clear hlo hhi hr0 hr1 hk hpx hL hx hq hn h2 h4 h6 h7 h8; lia))]; exact h2, by rw [hx _ (by (clear hlo hhi hr0 hr1 hk hpx hL hx hq hn h2 h4 h6 h7 h8; lia)) (by (clear hlo hhi hr0 hr1 hk hpx hL hx hq hn h2 h4 h6 h7 h8; lia))]; exact h3, RGL_c hr0 hr1 n h4 (fun i a b => hx i (by (clear hlo hhi hr0 hr1 hk hpx hL hx hq hn h2 h4 h6 h7 h8 b; lia)) (by (clear hlo hhi hr0 hr1 hk hpx hL hx hq hn h2 h4 h6 h7 h8 a; lia))) hq hn, by rw [hpx q h6.1 h6.2]; exact h5, by (clear hlo hhi hr0 hr1 hpx hL hx hq hn h1 h2 h3 h4 h5 h7 h8; omega), hL q h7, by rw [hx _ (by (clear hlo hhi hr0 hr1 hk hpx hL hx hq hn h2 h4 h6 h7 h8; lia)) (by (clear hlo hhi hr0 hr1 hk hpx hL hx hq hn h2 h4 h6 h7 h8; omega))]; exact h8⟩
theorem CHP_le [Inhabited gh_] : ∀ (m : Nat) {c g ce l : Int}, CHP Mx Mq px L lo hi r0 r1 k k1 m c g ce l → r0 ≤ g ∧ g ≤ l ∧ l < r1
  | 0, c, g, ce, l, h => PT1_le h
  | m + 1, c, g, ce, l, ⟨c1, l1, h1, h2, h3⟩ => by have := PT1_le h1; have := CHP_le m h3; omega
theorem CHP_c [Inhabited gh_] (hlo : lo' ≤ lo) (hhi : hi ≤ hi') (hr0 : r0' ≤ r0) (hr1 : r1 ≤ r1') (hk : k1 ≤ k1') (hpx : ∀ i, k < i → i ≤ k1 → px' i = px i) (hL : ∀ i, L i → L' i) (hx : ∀ i, lo ≤ i → i < hi → Mx' 142 i = Mx 142 i) :
    ∀ (m : Nat) {c g ce l : Int}, CHP Mx Mq px L lo hi r0 r1 k k1 m c g ce l → (∀ i, g ≤ i → i ≤ l → Mq' 216 i = Mq 216 i ∧ Mq' 217 i = Mq 217 i ∧ Mq' 218 i = Mq 218 i) → (∀ i, g ≤ i → i < l → Mq' 219 i = Mq 219 i) → CHP Mx' Mq' px' L' lo' hi' r0' r1' k k1' m c g ce l
  | 0, c, g, ce, l, h, hq, hn => PT1_c h hlo hhi hr0 hr1 hk hpx hL hx hq hn
  | m + 1, c, g, ce, l, ⟨c1, l1, h1, h2, h3⟩, hq, hn => by
    have e1 := PT1_le h1
    have e2 := CHP_le m h3
    have e := hn l1 (by omega) (by (clear hlo hhi hr0 hr1 hk hpx hL hx h1 h3 hq hn e1; omega))
    exact ⟨c1, l1, PT1_c h1 hlo hhi hr0 hr1 hk hpx hL hx (fun i a b => hq i a (by (clear hlo hhi hr0 hr1 hk hpx hL hx h1 h3 hq hn e1 a; lia))) (fun i a b => hn i a (by (clear hlo hhi hr0 hr1 hk hpx hL hx h1 h3 hq hn e1 a; lia))), by rw [e]; exact h2, by rw [e]; exact CHP_c hlo hhi hr0 hr1 hk hpx hL hx m h3 (fun i a b => hq i (by (clear hlo hhi hr0 hr1 hk hpx hL hx h1 h3 hq hn e2 b; omega)) b) (fun i a b => hn i (by omega) b)⟩
theorem CHP_a [Inhabited gh_] : ∀ (m : Nat) {c g ce l ce' l' : Int}, CHP Mx Mq px L lo hi r0 r1 k k1 m c g ce l → l < Mq 219 l → PT1 Mx Mq px L lo hi r0 r1 k k1 ce (Mq 219 l) ce' l' → CHP Mx Mq px L lo hi r0 r1 k k1 (m + 1) c g ce' l'
  | 0, c, g, ce, l, ce', l', h, h1, h2 => ⟨ce, l, h, h1, h2⟩
  | m + 1, c, g, ce, l, ce', l', ⟨c1, l1, h3, h4, h5⟩, h1, h2 => ⟨c1, l1, h3, h4, CHP_a m h5 h1 h2⟩
theorem CHP_n [Inhabited gh_] : ∀ (m : Nat) {c g ce l : Int}, CHP Mx Mq px L lo hi r0 r1 k k1 m c g ce l → CHN Mx Mq px L lo hi r0 r1 k k1 0 ce (Mq 219 l) → CHN Mx Mq px L lo hi r0 r1 k k1 (m + 1) c g
  | 0, c, g, ce, l, h, h1 => ⟨ce, l, h, h1⟩
  | m + 1, c, g, ce, l, ⟨c1, l1, h3, h4, h5⟩, h1 => ⟨c1, l1, h3, CHP_n m h5 h1⟩
theorem CHN_c [Inhabited gh_] (hlo : lo' ≤ lo) (hhi : hi ≤ hi') (hr0 : r0' ≤ r0) (hr1 : r1 ≤ r1') (hk : k1 ≤ k1') (hpx : ∀ i, k < i → i ≤ k1 → px' i = px i) (hL : ∀ i, L i → L' i) (hx : ∀ i, lo ≤ i → i < hi → Mx' 142 i = Mx 142 i)
    (hq : ∀ i, r0 ≤ i → i < r1 → Mq' 216 i = Mq 216 i ∧ Mq' 217 i = Mq 217 i ∧ Mq' 218 i = Mq 218 i ∧ Mq' 219 i = Mq 219 i) (ho : Mq' 207 k = Mq 207 k ∧ Mq' 208 k = Mq 208 k) :
    ∀ (m : Nat) {c g : Int}, CHN Mx Mq px L lo hi r0 r1 k k1 m c g → CHN Mx' Mq' px' L' lo' hi' r0' r1' k k1' m c g
  | 0, c, g, ⟨h1, h2, h3, q, h4, h5, h6, h7⟩ => ⟨by (clear hr0 hr1 hk hpx hL hx hq ho h2 h3 h4 h6 h7; omega), h2, by rw [hx c (by (clear hlo hhi hr0 hr1 hk hpx hL hx hq ho h2 h3 h4 h6 h7; omega)) (by (clear hlo hhi hr0 hr1 hk hpx hL hx hq ho h2 h3 h4 h6 h7; omega))]; exact h3, q, by rw [ho.1, ho.2]; exact h4, by rw [hpx q h6.1 h6.2]; exact h5, by omega, hL q h7⟩
  | m + 1, c, g, ⟨ce, l, h1, h2⟩ => by
    have e1 := PT1_le h1
    refine ⟨ce, l, PT1_c h1 hlo hhi hr0 hr1 hk hpx hL hx (fun i a b => by have := hq i (by (clear hlo hhi hr0 hr1 hk hpx hL hx hq ho h1 h2 b; omega)) (by (clear hlo hhi hr0 hr1 hk hpx hL hx hq ho h1 h2 a; omega)); exact ⟨this.1, this.2.1, this.2.2.1⟩) (fun i a b => (hq i (by omega) (by (clear hlo hhi hr0 hr1 hk hpx hL hx hq ho h1 h2 a; omega))).2.2.2), ?_⟩
    rw [(hq l (by omega) (by omega)).2.2.2]
    exact CHN_c hlo hhi hr0 hr1 hk hpx hL hx hq ho m h2
theorem OPX_c [Inhabited gh_] (h : OPX Mx Mq px L T lo hi r0 r1 k1 fe k) (hlo : lo' ≤ lo) (hhi : hi ≤ hi') (hr0 : r0' ≤ r0) (hr1 : r1 ≤ r1') (hk : k1 ≤ k1') (hkk : k < k1) (hpb : ∀ i, k ≤ i → i ≤ k1 → lo ≤ px i ∧ px i ≤ hi) (hpx : ∀ i, k ≤ i → i ≤ k1 → px' i = px i) (hL : ∀ i, L i → L' i) (hL2 : L' k → L k) (hx : ∀ i, lo ≤ i → i < hi → Mx' 142 i = Mx 142 i)
    (hq : ∀ i, r0 ≤ i → i < r1 → Mq' 216 i = Mq 216 i ∧ Mq' 217 i = Mq 217 i ∧ Mq' 218 i = Mq 218 i ∧ Mq' 219 i = Mq 219 i) (ho : ∀ r, r ∈ opL → Mq' r k = Mq r k) (h9 : ∀ i, 3 * k ≤ i → i < 3 * k + 3 → Mq' 209 i = Mq 209 i) (hf : ∀ i, 0 ≤ i → i < fe → Mq' 227 i = Mq 227 i ∧ Mq' 228 i = Mq 228 i) (ht : tc_ T Mq Mq') (hfe : fe ≤ fe') : OPX Mx' Mq' px' L' T lo' hi' r0' r1' k1' fe' k := by
  have o3 := ho 203 (by decide)
  have o4 := ho 204 (by decide)
  have o5 := ho 205 (by decide)
  have o6 := ho 206 (by decide)
  have o7 := ho 207 (by decide)
  have o8 := ho 208 (by decide)
  have b0 := hpb k (by (clear h hlo hhi hr0 hr1 hk hkk hpb hpx hL hL2 hx hq ho h9 hf ht hfe o3 o4 o5 o6 o7 o8; lia)) (by omega)
  have b1 := hpb (k + 1) (by (clear h hlo hhi hr0 hr1 hk hkk hpb hpx hL hL2 hx hq ho h9 hf ht hfe o3 o4 o5 o6 o7 o8 b0; lia)) (by (clear h hlo hhi hr0 hr1 hk hpb hpx hL hL2 hx hq ho h9 hf ht hfe o3 o4 o5 o6 o7 o8 b0; omega))
  have p0 := hpx k (by (clear h hlo hhi hr0 hr1 hk hkk hpb hpx hL hL2 hx hq ho h9 hf ht hfe o3 o4 o5 o6 o7 o8 b0 b1; lia)) (by (clear h hlo hhi hr0 hr1 hk hpb hpx hL hL2 hx hq ho h9 hf ht hfe o3 o4 o5 o6 o7 o8 b0 b1; omega))
  have p1 := hpx (k + 1) (by (clear h hlo hhi hr0 hr1 hk hkk hpb hpx hL hL2 hx hq ho h9 hf ht hfe o3 o4 o5 o6 o7 o8 b0 b1 p0; lia)) (by (clear h hlo hhi hr0 hr1 hk hpb hpx hL hL2 hx hq ho h9 hf ht hfe o3 o4 o5 o6 o7 o8 b0 b1 p0; omega))
  unfold OPX
  rw [o3, o4, o5, o6, p0, p1]
  rcases h with ⟨g1, g2, g3, g4, g5⟩ | ⟨g1, g2, g3, g4, g5, g6⟩ | ⟨g1, g2, g3, c1, t, m, g4, g5, g6, g7⟩ | ⟨g1, g2, g3, g4⟩
  · have le : px k + 2 ≤ px (k + 1) := by
      unfold OPC at g4
      rcases g4 with e | e | e | e | e | e | e | e
      · obtain ⟨_, _, c1, _, e1, e2⟩ := e
        rcases e2 with e2 | ⟨c0, e2⟩
        · have := EXP_le e2.2.2.1; (clear hlo hhi hr0 hr1 hk hkk hpb hpx hL hL2 hx hq ho h9 hf ht hfe o3 o4 o5 o6 o7 o8 b0 b1 g1 g2 g3 g5 e2; omega)
        · have := EXP_le e2.2.1; have := EXP_le e2.2.2.2.2.1; (clear hlo hhi hr0 hr1 hk hkk hpb hpx hL hL2 hx hq ho h9 hf ht hfe o3 o4 o5 o6 o7 o8 b0 b1 g1 g2 g3 g5 e2; omega)
      · obtain ⟨_, _, _, _, _, c1, c2, m, e1, e2, e3⟩ := e
        have := VAL_le _ e1
        have : c1 ≤ c2 := by
          rcases e2 with e2 | e2 | e2
          · (clear hlo hhi hr0 hr1 hk hkk hpb hpx hL hL2 hx hq ho h9 hf ht hfe o3 o4 o5 o6 o7 o8 b0 b1 p0 p1 g1 g2 g3 g5 e1 e3 this; omega)
          · exact (EXP_le e2.2.2).1
          · (clear hlo hhi hr0 hr1 hk hkk hpb hpx hL hL2 hx hq ho h9 hf ht hfe o3 o4 o5 o6 o7 o8 b0 b1 p0 p1 g1 g2 g3 g5 e1 e3 this; omega)
        (clear hlo hhi hr0 hr1 hk hkk hpb hpx hL hL2 hx hq ho h9 hf ht hfe o3 o4 o5 o6 o7 o8 b0 b1 g1 g2 g3 g5 e1 e2; omega)
      · obtain ⟨_, _, c1, e1, e2⟩ := e
        have := EXP_le e1; (clear hlo hhi hr0 hr1 hk hkk hpb hpx hL hL2 hx hq ho h9 hf ht hfe o3 o4 o5 o6 o7 o8 b0 b1 g1 g2 g3 g5 e1; omega)
      · (clear hlo hhi hr0 hr1 hk hkk hpb hpx hL hL2 hx hq ho h9 hf ht hfe o3 o4 o5 o6 o7 o8 b0 b1 g1 g2 g3 g5; omega)
      · obtain ⟨_, _, _, _, _, c1, e1, e2⟩ := e
        have := VAL_le _ e1; (clear hlo hhi hr0 hr1 hk hkk hpb hpx hL hL2 hx hq ho h9 hf ht hfe o3 o4 o5 o6 o7 o8 b0 b1 g1 g2 g3 g5 e1; omega)
      · rcases e.2 with e2 | e2 <;> (clear hlo hhi hr0 hr1 hk hkk hpb hpx hL hL2 hx hq ho h9 hf ht hfe o3 o4 o5 o6 o7 o8 b0 b1 g1 g2 g3 g5 e; omega)
      · (clear hlo hhi hr0 hr1 hk hkk hpb hpx hL hL2 hx hq ho h9 hf ht hfe o3 o4 o5 o6 o7 o8 b0 b1 g1 g2 g3 g5; omega)
      · (clear hlo hhi hr0 hr1 hk hkk hpb hpx hL hL2 hx hq ho h9 hf ht hfe o3 o4 o5 o6 o7 o8 b0 b1 g1 g2 g3 g5; omega)
    exact .inl ⟨g1, by rw [hx _ (by (clear hlo hhi hr0 hr1 hk hkk hpb hpx hL hL2 hx hq ho h9 hf ht hfe o3 o4 o5 o6 o7 o8 b1 p1 g1 g2 g3 g4 g5 le; lia)) (by (clear hlo hhi hr0 hr1 hk hkk hpb hpx hL hL2 hx hq ho h9 hf ht hfe o3 o4 o5 o6 o7 o8 g1 g2 g3 g4 g5; omega))]; exact g2, by rw [hx _ (by (clear hlo hhi hr0 hr1 hk hkk hpb hpx hL hL2 hx hq ho h9 hf ht hfe o3 o4 o5 o6 o7 o8 b1 p1 g1 g2 g3 g4 g5 le; lia)) (by (clear hlo hhi hr0 hr1 hk hkk hpb hpx hL hL2 hx hq ho h9 hf ht hfe o3 o4 o5 o6 o7 o8 g1 g2 g3 g4 g5; lia))]; exact g3, OPC_c g4 (fun i a b => hx i (by (clear hlo hhi hr0 hr1 hk hkk hpb hpx hL hL2 hx hq ho h9 hf ht hfe o3 o4 o5 o6 o7 o8 b1 p1 g1 g2 g3 g4 g5 le b; lia)) (by (clear hlo hhi hr0 hr1 hk hkk hpb hpx hL hL2 hx hq ho h9 hf ht hfe o3 o4 o5 o6 o7 o8 b0 p0 g1 g2 g3 g4 g5 le a; lia))) ho h9 hf ht hfe, fun a b => hL _ (g5 a (hL2 b))⟩
  · refine .inr (.inl ⟨g1, by rw [hx _ (by omega) (by (clear hlo hhi hr0 hr1 hk hkk hpb hpx hL hL2 hx hq ho h9 hf ht hfe o3 o4 o5 o6 o7 o8 b0 b1 p1 g1 g2 g3 g4 g6; omega))]; exact g2, by rw [hx _ (by omega) (by (clear hlo hhi hr0 hr1 hk hkk hpb hpx hL hL2 hx hq ho h9 hf ht hfe o3 o4 o5 o6 o7 o8 b0 b1 p1 g1 g2 g3 g4 g6; omega)), hpx _ (by (clear hlo hhi hr0 hr1 hk hkk hpb hpx hL hL2 hx hq ho h9 hf ht hfe o3 o4 o5 o6 o7 o8 b0 b1 p0 p1 g1 g2 g3 g5 g6; omega)) g4.2]; exact g3, by (clear hlo hhi hr0 hr1 hkk hpb hpx hL hL2 hx hq ho h9 hf ht hfe o3 o4 o5 o6 o7 o8 b0 b1 p0 p1 g1 g2 g3 g5 g6; omega), by (clear hlo hr0 hr1 hk hkk hpb hpx hL hL2 hx hq ho h9 hf ht hfe o3 o4 o5 o6 o7 o8 b0 b1 p1 g1 g2 g3 g4 g6; omega), fun a => hL _ (g6 (hL2 a))⟩)
  · have le := EXP_le g5
    exact .inr (.inr (.inl ⟨g1, by rw [hx _ (by (clear hlo hhi hr0 hr1 hk hkk hpb hpx hL hL2 hx hq ho h9 hf ht hfe o3 o4 o5 o6 o7 o8 b1 p1 g1 g2 g3 g4 g5 g6 g7 le; lia)) (by (clear hlo hhi hr0 hr1 hk hkk hpb hpx hL hL2 hx hq ho h9 hf ht hfe o3 o4 o5 o6 o7 o8 b1 p1 g1 g2 g3 g4 g5 g7; omega))]; exact g2, by rw [hx _ (by (clear hlo hhi hr0 hr1 hk hkk hpb hpx hL hL2 hx hq ho h9 hf ht hfe o3 o4 o5 o6 o7 o8 b1 p1 g1 g2 g3 g4 g5 g6 g7 le; omega)) (by (clear hlo hhi hr0 hr1 hk hkk hpb hpx hL hL2 hx hq ho h9 hf ht hfe o3 o4 o5 o6 o7 o8 b1 p1 g1 g2 g3 g4 g5 g7; lia))]; exact g3, c1, t, m, g4, EXP_c g5 (fun i a b => hx i (by (clear hlo hhi hr0 hr1 hk hkk hpb hpx hL hL2 hx hq ho h9 hf ht hfe o3 o4 o5 o6 o7 o8 b1 p1 g1 g2 g3 g4 g5 g6 g7 le b; lia)) (by (clear hlo hhi hr0 hr1 hk hkk hpb hpx hL hL2 hx hq ho h9 hf ht hfe o3 o4 o5 o6 o7 o8 b0 b1 p0 p1 g1 g2 g3 g4 g5 g7 le a; omega))) (fun i a b => hf i (by (clear hlo hhi hr0 hr1 hk hkk hpb hpx hL hL2 hx hq ho h9 hf ht hfe o3 o4 o5 o6 o7 o8 b0 b1 p0 p1 g1 g2 g3 g4 g5 g6 g7 b; omega)) b) ht.1 hfe, by (clear hlo hr0 hr1 hk hkk hpb hpx hL hL2 hx hq ho h9 hf ht hfe o3 o4 o5 o6 o7 o8 b0 b1 p0 p1 g1 g2 g3 g4 g5 g7 le; lia), CHN_c hlo hhi hr0 hr1 hk (fun i a b => hpx i (by (clear hlo hhi hr0 hr1 hk hkk hpb hpx hL hL2 hx hq ho h9 hf ht hfe o3 o4 o5 o6 o7 o8 b0 b1 p0 p1 g1 g2 g3 g4 g5 g6 g7 le b; omega)) b) hL hx hq ⟨o7, o8⟩ _ g7⟩))
  · exact .inr (.inr (.inr ⟨g1, by rw [hpx _ (by (clear hlo hhi hr0 hr1 hk hkk hpb hpx hL hL2 hx hq ho h9 hf ht hfe o3 o4 o5 o6 o7 o8 b0 b1 p0 p1 g1 g2 g4; omega)) g3.2]; exact g2, by (clear hlo hhi hr0 hr1 hkk hpb hpx hL hL2 hx hq ho h9 hf ht hfe o3 o4 o5 o6 o7 o8 b0 b1 p0 p1 g1 g2 g4; omega), fun a => hL _ (g4 (hL2 a))⟩))
end PG
end T129_pg
section T130_pg
/-! runs of ops: joined, kept -/
section PG
variable {Mx Mq Mx' Mq' : mm_} {T k0 k1 k2 c0 c1 c2 r0 r1 r2 fe fe' j0 j1 j2 v v1 v2 : Int}
theorem SEG_c [Inhabited gh_] (h : SEG Mx Mq T k0 k1 c0 c1 r0 r1 fe j0 j1 v) (hx : ∀ i, c0 ≤ i → i < c1 → Mx' 142 i = Mx 142 i) (hq : ∀ i, r0 ≤ i → i < r1 → Mq' 216 i = Mq 216 i ∧ Mq' 217 i = Mq 217 i ∧ Mq' 218 i = Mq 218 i ∧ Mq' 219 i = Mq 219 i) (ho : ∀ r i, r ∈ opL → k0 ≤ i → i < k1 → Mq' r i = Mq r i) (h9 : ∀ i, 3 * k0 ≤ i → i < 3 * k1 → Mq' 209 i = Mq 209 i)
    (hf : ∀ i, 0 ≤ i → i < fe → Mq' 227 i = Mq 227 i ∧ Mq' 228 i = Mq 228 i) (ht : tc_ T Mq Mq') (hfe : fe ≤ fe') (hl : ∀ l, j0 ≤ l → l < j1 → Mx' 129 (10 * T + l) = Mx 129 (10 * T + l) ∧ Mq' 188 (10 * T + l) = Mq 188 (10 * T + l)) : SEG Mx' Mq' T k0 k1 c0 c1 r0 r1 fe' j0 j1 v := by
  obtain ⟨px, L, ⟨p0, p1, p2⟩, h2, h3, h4⟩ := h
  refine ⟨px, L, ⟨p0, p1, p2⟩, h2, fun k a b => OPX_c (h3 k a b) (Int.le_refl _) (Int.le_refl _) (Int.le_refl _) (Int.le_refl _) (Int.le_refl _) b (fun i x y => p2 i (by (clear hx hq ho h9 hf ht hfe hl p0 p1 p2 h2 h3 h4 b y; lia)) y) (fun _ _ _ => rfl) (fun _ h => h) (fun h => h) hx hq (fun r hr => ho r k hr a b) (fun i x y => h9 i (by (clear hx hq ho h9 hf ht hfe hl p0 p1 p2 h2 h3 h4 b; lia)) (by (clear hx hq ho h9 hf ht hfe hl p0 p1 p2 h2 h3 h4 a; lia))) hf ht hfe, fun l a b => ?_⟩
  rw [(hl l a b).1, (hl l a b).2]; exact h4 l a b
theorem SEG_v [Inhabited gh_] (h : SEG Mx Mq T k0 k1 c0 c1 r0 r1 fe j0 j1 v) (hk : k0 ≤ k1) : c0 ≤ c1 ∧ (v = 1 → k0 < k1) := by
  obtain ⟨px, L, ⟨p0, p1, p2⟩, ⟨h2, h3, h5⟩, _⟩ := h
  have := p2 k1 hk (by omega)
  refine ⟨by omega, fun e => ?_⟩
  by_cases c : k0 = k1
  · rw [c] at h2; exact absurd h2 (h5 e)
  · omega
theorem SEG_tr [Inhabited gh_] (hk : k0 ≤ k1) (hk2 : k1 ≤ k2) (hr : r0 ≤ r1) (hr2 : r1 ≤ r2) (h1 : SEG Mx Mq T k0 k1 c0 c1 r0 r1 fe j0 j1 v1) (h2 : SEG Mx Mq T k1 k2 c1 c2 r1 r2 fe j1 j2 v2) : SEG Mx Mq T k0 k2 c0 c2 r0 r2 fe j0 j2 v2 := by
  have e1 := SEG_v h1 hk
  have e2 := SEG_v h2 hk2
  obtain ⟨px, L, ⟨p0, p1, p2⟩, ⟨l0, l1, l2⟩, o1, b1⟩ := h1
  obtain ⟨py, N, ⟨q0, q1, q2⟩, ⟨n0, n1, n2⟩, o2, b2⟩ := h2
  have eqy : ∀ i, k1 ≤ i → (if i < k1 then px i else py i) = py i := fun i h => if_neg (by (clear hk hk2 hr hr2 e1 e2 p0 p1 p2 l0 l1 l2 o1 b1 q0 q1 q2 n0 n1 n2 o2 b2; lia))
  have eqx : ∀ i, i ≤ k1 → (if i < k1 then px i else py i) = px i := fun i h => by
    by_cases c : i < k1
    · rw [if_pos c]
    · rw [if_neg c, show i = k1 by (clear hk hk2 hr hr2 e1 e2 p0 p1 p2 l0 l1 l2 o1 b1 q0 q1 q2 n0 n1 n2 o2 b2 eqy; lia), q0, p1]
  have hall : ∀ k, k0 ≤ k → k ≤ k2 → c0 ≤ (if k < k1 then px k else py k) ∧ (if k < k1 then px k else py k) ≤ c2 := fun k a b => by
    by_cases c : k < k1
    · rw [if_pos c]; have := p2 k a (by (clear hk hk2 hr hr2 e1 e2 p0 p1 p2 l0 l1 l2 o1 b1 q0 q1 q2 n0 n1 n2 o2 b2 eqy eqx a b; omega)); (clear hk hk2 hr hr2 e1 p2 l0 l1 l2 o1 b1 q2 n0 n1 n2 o2 b2 eqy eqx a b c; lia)
    · rw [if_neg c]; have := q2 k (by (clear hk hk2 hr hr2 e1 e2 p0 p1 p2 l0 l1 l2 o1 b1 q0 q1 q2 n0 n1 n2 o2 b2 eqy eqx a b; omega)) b; (clear hk hk2 hr hr2 e2 p2 l0 l1 l2 o1 b1 q2 n0 n1 n2 o2 b2 eqy eqx a b c; lia)
  refine ⟨fun i => if i < k1 then px i else py i, fun i => L i ∨ N i, ⟨?_, ?_, hall⟩, ⟨.inl l0, fun k h => ?_, fun e h => ?_⟩, fun k a b => ?_, fun l a b => ?_⟩
  · show (if k0 < k1 then px k0 else py k0) = c0
    rw [eqx k0 hk]; exact p0
  · show (if k2 < k1 then px k2 else py k2) = c2
    rw [eqy k2 hk2]; exact q1
  · rcases h with h | h
    · have := l1 k h; (clear hk hr hr2 e1 e2 p0 p1 p2 l0 l1 l2 o1 b1 q0 q1 q2 n0 n1 n2 o2 b2 eqy eqx hall h; lia)
    · have := n1 k h; (clear hk2 hr hr2 e1 e2 p0 p1 p2 l0 l1 l2 o1 b1 q0 q1 q2 n0 n1 n2 o2 b2 eqy eqx hall h; omega)
  · have := e2.2 e
    rcases h with h | h
    · have := l1 k2 h; omega
    · exact n2 e h
  · by_cases c : k < k1
    · exact OPX_c (o1 k a c) (Int.le_refl _) (by (clear hk hk2 hr hr2 e1 p0 p2 l0 l1 l2 o1 b1 q2 n0 n1 n2 o2 b2 eqy eqx hall a b c; lia)) (Int.le_refl _) hr2 hk2 c (fun i x y => p2 i (by (clear hk hk2 hr hr2 e1 e2 p0 p1 p2 l0 l1 l2 o1 b1 q0 q1 q2 n0 n1 n2 o2 b2 eqy eqx hall b c y; lia)) y) (fun i x y => eqx i y) (fun i h => .inl h) (fun h => by
        rcases h with h | h
        · exact h
        · have := n1 k h; (clear hk hk2 hr hr2 e1 e2 p0 p1 p2 l0 l1 l2 o1 b1 q0 q1 q2 n0 n1 n2 o2 b2 eqy eqx hall a b h; omega)) (fun _ _ _ => rfl) (fun _ _ _ => ⟨rfl, rfl, rfl, rfl⟩) (fun _ _ => rfl) (fun _ _ _ => rfl) (fun _ _ _ => ⟨rfl, rfl⟩) ⟨tb_rf, rfl, rfl, rfl, rfl, rfl, rfl, rfl, rfl⟩ (Int.le_refl _)
    · exact OPX_c (o2 k (by omega) b) (by (clear hk hk2 hr hr2 e2 p2 l0 l1 l2 o1 b1 q1 q2 n0 n1 n2 o2 b2 eqy eqx hall a b c; lia)) (Int.le_refl _) hr (Int.le_refl _) (Int.le_refl _) b (fun i x y => q2 i (by (clear hk hk2 hr hr2 e1 e2 p0 p1 p2 l0 l1 l2 o1 b1 q0 q1 q2 n0 n1 n2 o2 b2 eqy eqx hall a b y; lia)) y) (fun i x y => eqy i (by omega)) (fun i h => .inr h) (fun h => by
        rcases h with h | h
        · have := l1 k h
          rw [show k = k1 by (clear hk hk2 hr hr2 e1 e2 p0 p1 p2 l0 l1 l2 o1 b1 q0 q1 q2 n0 n1 n2 o2 b2 eqy eqx hall a b h; lia)]; exact n0
        · exact h) (fun _ _ _ => rfl) (fun _ _ _ => ⟨rfl, rfl, rfl, rfl⟩) (fun _ _ => rfl) (fun _ _ _ => rfl) (fun _ _ _ => ⟨rfl, rfl⟩) ⟨tb_rf, rfl, rfl, rfl, rfl, rfl, rfl, rfl, rfl⟩ (Int.le_refl _)
  · by_cases c : l < j1
    · have := b1 l a c
      refine ⟨?_, .inl this.2.1, by (clear hk hr hr2 e1 e2 p0 p1 p2 l0 l1 l2 o1 b1 q0 q1 q2 n0 n1 n2 o2 b2 eqy eqx hall a b c; omega)⟩
      show _ = (if Mq 188 (10 * T + l) < k1 then px (Mq 188 (10 * T + l)) else py (Mq 188 (10 * T + l)))
      rw [eqx _ (by (clear hk hk2 hr hr2 e1 e2 p0 p1 p2 l0 l1 l2 o1 b1 q0 q1 q2 n0 n1 n2 o2 b2 eqy eqx hall a b c; lia))]; exact this.1
    · have := b2 l (by (clear hk hk2 hr hr2 e1 e2 p0 p1 p2 l0 l1 l2 o1 b1 q0 q1 q2 n0 n1 n2 o2 b2 eqy eqx hall a b; omega)) b
      have g := n1 _ this.2.1
      refine ⟨?_, .inr this.2.1, this.2.2⟩
      show _ = (if Mq 188 (10 * T + l) < k1 then px (Mq 188 (10 * T + l)) else py (Mq 188 (10 * T + l)))
      rw [eqy _ g.1]; exact this.1
theorem SEG_0 [Inhabited gh_] : SEG Mx Mq T k0 k0 c0 c0 r0 r0 fe j0 j0 0 := ⟨fun _ => c0, fun k => k = k0, ⟨rfl, rfl, fun _ _ _ => ⟨Int.le_refl _, Int.le_refl _⟩⟩, ⟨rfl, fun k h => by omega, fun e => absurd e (by decide)⟩, fun k a b => by omega, fun l a b => by omega⟩
/-- a single op -/
theorem SEG_1 [Inhabited gh_] {w : Int} (hw : Mq 203 k0 = w) (hw1 : (1 ≤ w ∧ w ≤ 5 ∧ v = 0) ∨ (8 ≤ w ∧ w ≤ 10 ∧ v = 1)) (h30 : Mx 142 c0 = 30) (h4 : Mx 142 (c0 + 1) = Mq 204 k0) (hc : c0 ≤ c1) (h : OPC Mx Mq T k0 (c0 + 2) c1 fe) : SEG Mx Mq T k0 (k0 + 1) c0 c1 r0 r0 fe j0 j0 v := by
  have e0 : (fun i => if i ≤ k0 then c0 else c1) k0 = c0 := if_pos (Int.le_refl _)
  have e1 : (fun i => if i ≤ k0 then c0 else c1) (k0 + 1) = c1 := if_neg (by (clear hw hw1 h30 h4 hc h e0; lia))
  refine ⟨fun i => if i ≤ k0 then c0 else c1, fun k => k = k0 ∨ (v = 0 ∧ k = k0 + 1), ⟨e0, e1, fun k a b => ?_⟩, ⟨.inl rfl, fun k h => by (clear hw hw1 h30 h4 hc e0 e1; omega), fun e h => by (clear hw hw1 h30 h4 hc e0 e1; lia)⟩, fun k a b => ?_, fun l a b => by (clear hw hw1 h30 h4 hc h e0 e1; omega)⟩
  · show c0 ≤ (if k ≤ k0 then c0 else c1) ∧ (if k ≤ k0 then c0 else c1) ≤ c1
    split <;> (clear hw hw1 h30 h4 h a b; lia)
  · have ek : k = k0 := by (clear hw hw1 h30 h4 hc h e0 e1; lia)
    rw [ek]
    unfold OPX
    rw [e0, e1, hw]
    exact .inl ⟨by omega, h30, h4, h, fun a b => .inr ⟨by (clear hw h30 h4 hc h e0 e1 ek; lia), rfl⟩⟩
/-- labels ahead of a run -/
theorem SEG_l [Inhabited gh_] (hk : k0 < k1) (hj : j0 ≤ j1) (h : SEG Mx Mq T k0 k1 c0 c1 r0 r1 fe j1 j2 v) (hl : ∀ l, j0 ≤ l → l < j1 → Mx 129 (10 * T + l) = c0 ∧ Mq 188 (10 * T + l) = k0) : SEG Mx Mq T k0 k1 c0 c1 r0 r1 fe j0 j2 v := by
  obtain ⟨px, L, ⟨p0, p1, p2⟩, ⟨h2, h3, h5⟩, h6, h7⟩ := h
  refine ⟨px, L, ⟨p0, p1, p2⟩, ⟨h2, h3, h5⟩, h6, fun l a b => ?_⟩
  by_cases c : l < j1
  · have := hl l a c
    rw [this.1, this.2, p0]; exact ⟨rfl, h2, hk⟩
  · exact h7 l (by (clear hk hj hl p0 p1 p2 h2 h3 h5 h6 h7 a b; lia)) b
end PG
end T130_pg
section T131_pr
/-! parts: what X and Q are at, and what they leave -/
def bt_ (x l : Int) : Prop := x.toNat.testBit l.toNat = true
def rgR : List Nat := [216, 217, 218, 219]
def dsR : List Nat := [220, 221, 222, 223, 224, 225, 226]
/-- how many labels are behind -/
def lc_ (b : Int) (M : mm_) : Int := if b = 0 then M 128 (M 1 18) else M 1 19
def wM (n : Int) : Int := ((2 ^ n.toNat : Nat) : Int)
theorem wM_12 [Inhabited gh_] {n : Int} (h : n ≤ 12) : wM n ≤ 4096 := by
  unfold wM
  have : 2 ^ n.toNat ≤ 2 ^ 12 := Nat.pow_le_pow_right (by decide) (by omega)
  have e : (2 : Nat) ^ 12 = 4096 := by decide
  omega
theorem wM_0 [Inhabited gh_] {n : Int} : 0 < wM n := by
  unfold wM
  have : 0 < 2 ^ n.toNat := Nat.pow_pos (by decide)
  omega
/-- masks of the trans at hand, what is sent and made -/
def MSK (b : Int) (Mx Mq : mm_) (me : Int) : Prop := (b = 1 → (Mx 63 (Mx 1 29 - 1) = Mq 213 me ∧ 0 ≤ Mx 63 (Mx 1 29 - 1) ∧ Mx 63 (Mx 1 29 - 1) < wM (Mx 123 (Mx 1 18))) ∧ (Mx 65 (Mx 1 29 - 1) = Mq 214 me ∧ 0 ≤ Mx 65 (Mx 1 29 - 1) ∧ Mx 65 (Mx 1 29 - 1) < 1024) ∧ (0 ≤ Mx 64 (Mx 1 29 - 1) ∧ Mx 64 (Mx 1 29 - 1) < 1024)) ∧ (b = 1 → 0 ≤ Mx 1 21 ∧ Mx 1 21 < 1048576) ∧ (b = 1 → 0 ≤ Mx 1 23 ∧ Mx 1 23 < 64)
def PS [Inhabited gh_] (b F : Int) (Mx Mq : mm_) (a o me : Int) : Prop := TA b F Mx Mq a o ∧ GT b F Mx Mq (Mx 71 a) ∧ LBT b F Mx Mq a ∧ stt9 Mx Mq ∧ ((1 ≤ Mx 1 29 ∧ Mx 1 29 ≤ 600) ∧ (0 ≤ me ∧ me < 1300) ∧ (b = 1 → (Mx 66 (Mx 1 29 - 1) = -1 ↔ Mq 215 me ≠ 0))) ∧ Mx 1 7 + 8 * (1201 - a) ≤ 1000000000 - (gg_ : Int) ∧ (0 ≤ Mq 6 90 ∧ Mq 6 90 ≤ a) ∧ (0 ≤ Mq 6 102 ∧ Mq 6 102 ≤ o) ∧ MSK b Mx Mq me ∧ (0 ≤ Mx 1 19 ∧ Mx 5 3 ≤ 9 * a + 400)
def PK (b : Int) (Mx Mq Mx' Mq' : mm_) (me : Int) : Prop :=
  ((∀ i, 0 ≤ i → i < Mx 5 3 → Mx' 142 i = Mx 142 i) ∧ (∀ r i, r ∈ opL → 0 ≤ i → i < Mq 6 75 → Mq' r i = Mq r i) ∧ (∀ i, 0 ≤ i → i < 3 * Mq 6 75 → Mq' 209 i = Mq 209 i) ∧ (∀ i, 0 ≤ i → i < Mq 6 104 → Mq' 227 i = Mq 227 i ∧ Mq' 228 i = Mq 228 i) ∧ (∀ r i, r ∈ rgR → 0 ≤ i → i < Mq 6 90 → Mq' r i = Mq r i) ∧ (∀ r i, r ∈ dsR → 0 ≤ i → i < Mq 6 102 → Mq' r i = Mq r i) ∧ Mq' 6 102 = Mq 6 102)
  ∧ ((∀ i, i ≠ Mx 1 29 - 1 → Mx' 63 i = Mx 63 i ∧ Mx' 64 i = Mx 64 i ∧ Mx' 65 i = Mx 65 i) ∧ (∀ i, i ≠ me → Mq' 213 i = Mq 213 i ∧ Mq' 214 i = Mq 214 i) ∧ (∀ i, i ≠ Mx 1 18 → Mx' 128 i = Mx 128 i ∧ Mq' 175 i = Mq 175 i) ∧ (∀ i, i < 10 * Mx 1 18 + lc_ b Mx ∨ 10 * Mx 1 18 + 10 ≤ i → (Mx' 62 i = Mx 62 i ∧ Mx' 129 i = Mx 129 i) ∧ Mq' 180 i = Mq 180 i ∧ Mq' 187 i = Mq 187 i ∧ Mq' 188 i = Mq 188 i ∧ Mq' 189 i = Mq 189 i))
def PB (b : Int) (Mx Mq Mx' Mq' : mm_) (a a' : Int) : Prop := a ≤ a' ∧ (Mq 6 75 ≤ Mq' 6 75 ∧ Mq' 6 75 + a ≤ Mq 6 75 + a') ∧ (Mq 6 104 ≤ Mq' 6 104 ∧ Mq' 6 104 + 2 * a ≤ Mq 6 104 + 2 * a') ∧ (Mx 5 3 ≤ Mx' 5 3 ∧ Mx' 5 3 + 9 * a ≤ Mx 5 3 + 9 * a' ∧ (b = 0 → Mx' 5 3 = Mx 5 3)) ∧ (Mq 6 90 ≤ Mq' 6 90 ∧ Mq' 6 90 + a ≤ Mq 6 90 + a') ∧ (Mx 1 7 ≤ Mx' 1 7 ∧ Mx' 1 7 + 8 * a ≤ Mx 1 7 + 8 * a')
/-- labels: so many more; in the second pass the table stays -/
def PL (b : Int) (Mx Mq Mx' Mq' : mm_) (me : Int) : Prop := lc_ b Mx ≤ lc_ b Mx' ∧ (b = 0 → Mx' 1 19 = Mx 1 19) ∧ (b = 1 → Mx' 62 = Mx 62 ∧ Mx' 128 = Mx 128 ∧ Mq' 175 = Mq 175 ∧ Mq' 180 = Mq 180 ∧ Mq' 187 = Mq 187 ∧ (∀ l, Mx 1 19 ≤ l → l < Mx' 1 19 → Mq' 189 (10 * Mx 1 18 + l) = me) ∧ (∀ l, 0 ≤ l → l < 10 → (bt_ (Mx' 64 (Mx 1 29 - 1)) l ↔ bt_ (Mx 64 (Mx 1 29 - 1)) l ∨ (Mx 1 19 ≤ l ∧ l < Mx' 1 19))))
def PRC [Inhabited gh_] (b F F' : Int) (Mx Mq Mx' Mq' : mm_) (a a' o o' me : Int) : Prop :=
  (F' ≤ F ∧ (b = 1 → F' = F)) ∧ ER b F' Mx' Mq' a' o' ∧ (XA Mx Mx' ∧ QA Mq Mq') ∧ PK b Mx Mq Mx' Mq' me ∧ PB b Mx Mq Mx' Mq' a a' ∧ LBT b F' Mx' Mq' a' ∧ MSK b Mx' Mq' me ∧ PL b Mx Mq Mx' Mq' me
/-- ops sent and made -/
def SBS (Mx Mx' Mq' : mm_) (k0 k1 : Int) : Prop := (∀ s, 0 ≤ s → s < 20 → (bt_ (Mx' 1 21) s ↔ bt_ (Mx 1 21) s ∨ ∃ k, (k0 ≤ k ∧ k < k1) ∧ Mq' 203 k = 2 ∧ Mq' 205 k = s)) ∧ (∀ s, 0 ≤ s → s < 6 → (bt_ (Mx' 1 23) s ↔ bt_ (Mx 1 23) s ∨ ∃ k, (k0 ≤ k ∧ k < k1) ∧ Mq' 203 k = 5 ∧ Mq' 205 k = s))
def SEM (b : Int) (Mx Mq Mx' Mq' : mm_) (v : Int) : Prop := b = 1 → Mq' 6 13 = 0 → Mq 6 13 = 0 ∧ SEG Mx' Mq' (Mq 6 61) (Mq 6 75) (Mq' 6 75) (Mx 5 3) (Mx' 5 3) (Mq 6 90) (Mq' 6 90) (Mq' 6 104) (Mx 1 19) (Mx' 1 19) v ∧ SBS Mx Mx' Mq' (Mq 6 75) (Mq' 6 75)
section PR
variable {b F F' F2 : Int} {Mx Mq Mx' Mq' M1 N1 M2 N2 : mm_} {a a' a1 a2 o o' o1 o2 me v v1 v2 : Int}
theorem PS_E [Inhabited gh_] (h : PS b F Mx Mq a o me) : ER b F Mx Mq a o := h.1.2.2.1
theorem PS_T [Inhabited gh_] (h : PS b F Mx Mq a o me) : Tks Mx Mq := h.1.1
theorem lc_c [Inhabited gh_] (hx : XA Mx M1) (h128 : M1 128 = Mx 128) (h19 : M1 1 19 = Mx 1 19) : lc_ b M1 = lc_ b Mx := by
  unfold lc_; rw [h128, h19, hx.2.1 18 (by decide)]
theorem PRC_rf [Inhabited gh_] (h : PS b F Mx Mq a o me) : PRC b F F Mx Mq Mx Mq a a o o me := ⟨⟨Int.le_refl _, fun _ => rfl⟩, PS_E h, ⟨XA_rf, QA_rf⟩, ⟨⟨fun _ _ _ => rfl, fun _ _ _ _ _ => rfl, fun _ _ _ => rfl, fun _ _ _ => ⟨rfl, rfl⟩, fun _ _ _ _ _ => rfl, fun _ _ _ _ _ => rfl, rfl⟩, fun _ _ => ⟨rfl, rfl, rfl⟩, fun _ _ => ⟨rfl, rfl⟩, fun _ _ => ⟨rfl, rfl⟩, fun _ _ => ⟨⟨rfl, rfl⟩, rfl, rfl, rfl, rfl⟩⟩, ⟨by omega, by omega, by omega, ⟨by omega, by (clear h; lia), fun _ => rfl⟩, by omega, by omega⟩, h.2.2.1, h.2.2.2.2.2.2.2.2.1, ⟨Int.le_refl _, fun _ => rfl, fun _ => ⟨rfl, rfl, rfl, rfl, rfl, fun l a b => by omega, fun l _ _ => ⟨fun h => .inl h, fun h => by rcases h with h | h; exact h; omega⟩⟩⟩⟩
theorem bl01 [Inhabited gh_] (h : ER b F Mx Mq a o) : b = 0 ∨ b = 1 := h.2.2.2.2.2.2.2.2.1
theorem PRC_tr [Inhabited gh_] (h53 : 0 ≤ Mq 6 75) (h1 : PRC b F F' Mx Mq M1 N1 a a1 o o1 me) (h2 : PRC b F' F2 M1 N1 M2 N2 a1 a2 o1 o2 me) : PRC b F F2 Mx Mq M2 N2 a a2 o o2 me := by
  obtain ⟨f1, e1, ⟨x1, q1⟩, ⟨⟨c1, c2, c3, c4, c5, c6, c7⟩, d1, d2, d3, d4⟩, ⟨p1, p2, p3, p4, p5, p6⟩, l1, m1, t1, t2, t3⟩ := h1
  obtain ⟨g1, e2, ⟨x2, q2⟩, ⟨⟨k1, k2, k3, k4, k5, k6, k7⟩, w1, w2, w3, w4⟩, ⟨s1, s2, s3, s4, s5, s6⟩, l2, m2, u1, u2, u3⟩ := h2
  have i18 : M1 1 18 = Mx 1 18 := x1.2.1 18 (by decide)
  have i29 : M1 1 29 = Mx 1 29 := x1.2.1 29 (by decide)
  have h01 := bl01 e1
  rw [i18] at w3 w4 u3
  rw [i29] at w1 u3
  refine ⟨⟨by (clear h53 e1 x1 q1 c1 c2 c3 c4 c5 c6 c7 d1 d2 d3 d4 p1 p2 p3 p4 p5 p6 l1 m1 t1 t2 t3 e2 x2 q2 k1 k2 k3 k4 k5 k6 k7 w1 w2 w3 w4 s1 s2 s3 s4 s5 s6 l2 m2 u1 u2 u3 i18 i29 h01; lia), fun hb => (g1.2 hb).trans (f1.2 hb)⟩, e2, ⟨XA_tr x1 x2, QA_tr q1 q2⟩, ⟨⟨fun i a b => (k1 i a (by (clear h53 f1 e1 x1 q1 c1 c2 c3 c4 c5 c6 c7 d1 d2 d3 d4 p1 p2 p3 p5 p6 l1 m1 t1 t2 t3 g1 e2 x2 q2 k1 k2 k3 k4 k5 k6 k7 w1 w2 w3 w4 s1 s2 s3 s4 s5 s6 l2 m2 u1 u2 u3 i18 i29 h01 a; omega))).trans (c1 i a b), fun r i hr a b => (k2 r i hr a (by omega)).trans (c2 r i hr a b), fun i a b => (k3 i a (by (clear h53 f1 e1 x1 q1 c1 c2 c3 c4 c5 c6 c7 d1 d2 d3 d4 p1 p3 p4 p5 p6 l1 m1 t1 t2 t3 g1 e2 x2 q2 k1 k2 k3 k4 k5 k6 k7 w1 w2 w3 w4 s1 s2 s3 s4 s5 s6 l2 m2 u1 u2 u3 i18 i29 h01 a; lia))).trans (c3 i a b), fun i a b => ⟨(k4 i a (by (clear h53 f1 e1 x1 q1 c1 c2 c3 c4 c5 c6 c7 d1 d2 d3 d4 p1 p2 p4 p5 p6 l1 m1 t1 t2 t3 g1 e2 x2 q2 k1 k2 k3 k4 k5 k6 k7 w1 w2 w3 w4 s1 s2 s3 s4 s5 s6 l2 m2 u1 u2 u3 i18 i29 h01 a; omega))).1.trans (c4 i a b).1, (k4 i a (by omega)).2.trans (c4 i a b).2⟩, fun r i hr a b => (k5 r i hr a (by (clear h53 f1 e1 x1 q1 c1 c2 c3 c4 c5 c6 c7 d1 d2 d3 d4 p1 p2 p3 p4 p6 l1 m1 t1 t2 t3 g1 e2 x2 q2 k1 k2 k3 k4 k5 k6 k7 w1 w2 w3 w4 s1 s2 s3 s4 s5 s6 l2 m2 u1 u2 u3 i18 i29 h01 hr a; omega))).trans (c5 r i hr a b), fun r i hr a b => (k6 r i hr a (by (clear h53 f1 e1 x1 q1 c1 c2 c3 c4 c5 c6 d1 d2 d3 d4 p1 p2 p3 p4 p5 p6 l1 m1 t1 t2 t3 g1 e2 x2 q2 k1 k2 k3 k4 k5 k6 w1 w2 w3 w4 s1 s2 s3 s4 s5 s6 l2 m2 u1 u2 u3 i18 i29 h01 hr a; omega))).trans (c6 r i hr a b), k7.trans c7⟩, fun i hi => ?_, fun i hi => ?_, fun i hi => ?_, fun i hi => ?_⟩, ⟨by (clear h53 f1 e1 x1 q1 c1 c2 c3 c4 c5 c6 c7 d1 d2 d3 d4 p2 p3 p4 p5 p6 l1 m1 t1 t2 t3 g1 e2 x2 q2 k1 k2 k3 k4 k5 k6 k7 w1 w2 w3 w4 s2 s3 s4 s5 s6 l2 m2 u1 u2 u3 i18 i29 h01; lia), by (clear h53 f1 e1 x1 q1 c1 c2 c3 c4 c5 c6 c7 d1 d2 d3 d4 p1 p3 p4 p5 p6 l1 m1 t1 t2 t3 g1 e2 x2 q2 k1 k2 k3 k4 k5 k6 k7 w1 w2 w3 w4 s1 s3 s4 s5 s6 l2 m2 u1 u2 u3 i18 i29 h01; omega), by (clear h53 f1 e1 x1 q1 c1 c2 c3 c4 c5 c6 c7 d1 d2 d3 d4 p1 p2 p4 p5 p6 l1 m1 t1 t2 t3 g1 e2 x2 q2 k1 k2 k3 k4 k5 k6 k7 w1 w2 w3 w4 s1 s2 s4 s5 s6 l2 m2 u1 u2 u3 i18 i29 h01; lia), ⟨by (clear h53 f1 e1 x1 q1 c1 c2 c3 c4 c5 c6 c7 d1 d2 d3 d4 p1 p2 p3 p5 p6 l1 m1 t1 t2 t3 g1 e2 x2 q2 k1 k2 k3 k4 k5 k6 k7 w1 w2 w3 w4 s1 s2 s3 s5 s6 l2 m2 u1 u2 u3 i18 i29 h01; omega), by (clear h53 f1 e1 x1 q1 c1 c2 c3 c4 c5 c6 c7 d1 d2 d3 d4 p1 p2 p3 p5 p6 l1 m1 t1 t2 t3 g1 e2 x2 q2 k1 k2 k3 k4 k5 k6 k7 w1 w2 w3 w4 s1 s2 s3 s5 s6 l2 m2 u1 u2 u3 i18 i29 h01; lia), fun hb => (s4.2.2 hb).trans (p4.2.2 hb)⟩, by (clear h53 f1 e1 x1 q1 c1 c2 c3 c4 c5 c6 c7 d1 d2 d3 d4 p1 p2 p3 p4 p6 l1 m1 t1 t2 t3 g1 e2 x2 q2 k1 k2 k3 k4 k5 k6 k7 w1 w2 w3 w4 s1 s2 s3 s4 s6 l2 m2 u1 u2 u3 i18 i29 h01; omega), by (clear h53 f1 e1 x1 q1 c1 c2 c3 c4 c5 c6 c7 d1 d2 d3 d4 p1 p2 p3 p4 p5 l1 m1 t1 t2 t3 g1 e2 x2 q2 k1 k2 k3 k4 k5 k6 k7 w1 w2 w3 w4 s1 s2 s3 s4 s5 l2 m2 u1 u2 u3 i18 i29 h01; lia)⟩, l2, m2, by (clear h53 f1 e1 x1 q1 c1 c2 c3 c4 c5 c6 c7 d1 d2 d3 d4 p1 p2 p3 p4 p5 p6 l1 m1 t2 t3 g1 e2 x2 q2 k1 k2 k3 k4 k5 k6 k7 w1 w2 w3 w4 s1 s2 s3 s4 s5 s6 l2 m2 u2 u3 i18 i29 h01; lia), fun hb => (u2 hb).trans (t2 hb), fun hb => ?_⟩
  · have y1 := w1 i hi; have y2 := d1 i hi
    exact ⟨y1.1.trans y2.1, y1.2.1.trans y2.2.1, y1.2.2.trans y2.2.2⟩
  · have y1 := w2 i hi; have y2 := d2 i hi
    exact ⟨y1.1.trans y2.1, y1.2.trans y2.2⟩
  · have y1 := w3 i hi; have y2 := d3 i hi
    exact ⟨y1.1.trans y2.1, y1.2.trans y2.2⟩
  · have y1 := w4 i (by (clear h53 f1 e1 x1 q1 c1 c2 c3 c4 c5 c6 c7 d1 d2 d3 d4 p1 p2 p3 p4 p5 p6 l1 m1 t2 t3 g1 e2 x2 q2 k1 k2 k3 k4 k5 k6 k7 w1 w2 w3 w4 s1 s2 s3 s4 s5 s6 l2 m2 u1 u2 u3 i18 i29 h01; omega)); have y2 := d4 i hi
    exact ⟨⟨y1.1.1.trans y2.1.1, y1.1.2.trans y2.1.2⟩, y1.2.1.trans y2.2.1, y1.2.2.1.trans y2.2.2.1, y1.2.2.2.1.trans y2.2.2.2.1, y1.2.2.2.2.trans y2.2.2.2.2⟩
  · obtain ⟨v1, v2, v3, v4, v5, v6, v7⟩ := u3 hb
    obtain ⟨z1, z2, z3, z4, z5, z6, z7⟩ := t3 hb
    have hl : lc_ b M1 = M1 1 19 := by unfold lc_; rw [if_neg (by (clear h53 f1 e1 x1 q1 c1 c2 c3 c4 c5 c6 c7 d1 d2 d3 d4 p1 p2 p3 p4 p5 p6 l1 m1 t1 t2 t3 g1 e2 x2 q2 k1 k2 k3 k4 k5 k6 k7 w1 w2 w3 w4 s1 s2 s3 s4 s5 s6 l2 m2 u1 u2 u3 i18 i29 h01 v1 v2 v3 v4 v5 v6 v7 z1 z2 z3 z4 z5 z6 z7; lia))]
    have hl0 : lc_ b Mx = Mx 1 19 := by unfold lc_; rw [if_neg (by omega)]
    have hl2 : lc_ b M2 = M2 1 19 := by unfold lc_; rw [if_neg (by omega)]
    refine ⟨v1.trans z1, v2.trans z2, v3.trans z3, v4.trans z4, v5.trans z5, fun l a b => ?_, fun l a b => ?_⟩
    · by_cases c : l < M1 1 19
      · rw [(w4 (10 * Mx 1 18 + l) (.inl (by (clear h53 f1 e1 x1 q1 c1 c2 c3 c4 c5 c6 c7 d1 d2 d3 d4 p1 p2 p3 p4 p5 p6 l1 m1 t1 t2 t3 g1 e2 x2 q2 k1 k2 k3 k4 k5 k6 k7 w1 w2 w3 w4 s1 s2 s3 s4 s5 s6 l2 m2 u1 u2 u3 i18 i29 h01 hb v1 v2 v3 v4 v5 v6 v7 z1 z2 z3 z4 z5 z6 z7 hl0 hl2 a b; omega)))).2.2.2.2]; exact z6 l a c
      · exact v6 l (by (clear h53 f1 e1 x1 q1 c1 c2 c3 c4 c5 c6 c7 d1 d2 d3 d4 p1 p2 p3 p4 p5 p6 l1 m1 t1 t2 t3 g1 e2 x2 q2 k1 k2 k3 k4 k5 k6 k7 w1 w2 w3 w4 s1 s2 s3 s4 s5 s6 l2 m2 u1 u2 u3 i18 i29 h01 hb v1 v2 v3 v4 v5 v6 v7 z1 z2 z3 z4 z5 z6 z7 hl hl0 hl2 a b; omega)) b
    · rw [v7 l a b, z7 l a b]
      constructor
      · rintro ((h | h) | h)
        · exact .inl h
        · exact .inr (by (clear h53 f1 e1 x1 q1 c1 c2 c3 c4 c5 c6 c7 d1 d2 d3 d4 p1 p2 p3 p4 p5 p6 l1 m1 t1 t2 t3 g1 e2 x2 q2 k1 k2 k3 k4 k5 k6 k7 w1 w2 w3 w4 s1 s2 s3 s4 s5 s6 l2 m2 u2 u3 i18 i29 h01 hb v1 v2 v3 v4 v5 v6 v7 z1 z2 z3 z4 z5 z6 z7 hl0 a b; lia))
        · exact .inr (by (clear h53 f1 e1 x1 q1 c1 c2 c3 c4 c5 c6 c7 d1 d2 d3 d4 p1 p2 p3 p4 p5 p6 l1 m1 t2 t3 g1 e2 x2 q2 k1 k2 k3 k4 k5 k6 k7 w1 w2 w3 w4 s1 s2 s3 s4 s5 s6 l2 m2 u1 u2 u3 i18 i29 h01 hb v1 v2 v3 v4 v5 v6 v7 z1 z2 z3 z4 z5 z6 z7 hl2 a b; omega))
      · rintro (h | h)
        · exact .inl (.inl h)
        · by_cases c : l < M1 1 19
          · exact .inl (.inr (by (clear h53 f1 e1 x1 q1 c1 c2 c3 c4 c5 c6 c7 d1 d2 d3 d4 p1 p2 p3 p4 p5 p6 l1 m1 t1 t2 t3 g1 e2 x2 q2 k1 k2 k3 k4 k5 k6 k7 w1 w2 w3 w4 s1 s2 s3 s4 s5 s6 l2 m2 u1 u2 u3 i18 i29 h01 hb v1 v2 v3 v4 v5 v6 v7 z1 z2 z3 z4 z5 z6 z7 hl hl0 hl2 a b; omega)))
          · exact .inr (by (clear h53 f1 e1 x1 q1 c1 c2 c3 c4 c5 c6 c7 d1 d2 d3 d4 p1 p2 p3 p4 p5 p6 l1 m1 t1 t2 t3 g1 e2 x2 q2 k1 k2 k3 k4 k5 k6 k7 w1 w2 w3 w4 s1 s2 s3 s4 s5 s6 l2 m2 u1 u2 u3 i18 i29 h01 hb v1 v2 v3 v4 v5 v6 v7 z1 z2 z3 z4 z5 z6 z7 hl hl0 hl2 a b; omega))
theorem GT_F [Inhabited gh_] {p p' : Int} (h : GT b F Mx Mq p) (hF : F' ≤ F) (hp : p ≤ p') : GT b F' Mx Mq p' := by
  obtain ⟨h1, h2, h3, h4⟩ := h
  refine ⟨h1, h2, h3, fun hb => ?_⟩
  obtain ⟨g1, g2, g3⟩ := h4 hb
  exact ⟨g1, g2, g3.imp (fun h => h) (fun h => by (clear h1 h2 h3 h4 hb g1 g2 g3; lia))⟩
theorem stt9_a [Inhabited gh_] (hx : XA Mx M1) (hq : QA Mq N1) (h : stt9 Mx Mq) : stt9 M1 N1 := by
  unfold stt9 nm9_ gd_ at *
  rw [hx.2.1 18 (by decide), XA_r hx (r := 123) (by decide), XA_r hx (r := 59) (by decide), XA_r hx (r := 70) (by decide), QA_r hq (r := 174) (by decide), QA_r hq (r := 179) (by decide), QA_r hq (r := 151) (by decide)]
  exact h
theorem PS_tr [Inhabited gh_] (h : PS b F Mx Mq a o me) (hr : PRC b F F' Mx Mq M1 N1 a a1 o o1 me) (ho : o ≤ o1) : PS b F' M1 N1 a1 o1 me := by
  obtain ⟨⟨t1, t2, t3, t4, t5, t6⟩, g, l, s, ⟨u1, u2, u3⟩, w, r, d, m, n⟩ := h
  obtain ⟨f1, e1, ⟨x1, q1⟩, ⟨⟨c1, c2, c3, c4, c5, c6, c7⟩, d1, d2, d3, d4⟩, ⟨p1, p2, p3, p4, p5, p6⟩, l1, m1, y1, y2, y3⟩ := hr
  have x71 : M1 71 = Mx 71 := XA_r x1 (by decide)
  have hT1 := Tks_a x1 q1 t1
  have ga : gd_ Mx a := t3.1
  have ga1 : gd_ Mx a1 := gd_c (XA_r x1 (r := 70) (by decide)).symm e1.1
  have hp : Mx 71 a ≤ M1 71 a1 := by
    rw [x71]
    by_cases c : a = a1
    · rw [c]; exact Int.le_refl _
    · have := (t1 a1 ga1).2.2.2.2.1 a ga (by (clear ho t1 t2 t3 t4 t5 t6 g l s u1 u2 u3 w r d m n f1 e1 x1 q1 c1 c2 c3 c4 c5 c6 c7 d1 d2 d3 d4 p2 p3 p4 p5 p6 l1 m1 y1 y2 y3 x71 hT1 ga ga1; lia)); (clear ho t1 t2 t3 t4 t5 t6 g l s u1 u2 u3 w r d m n f1 e1 x1 q1 c1 c2 c3 c4 c5 c6 c7 d1 d2 d3 d4 p1 p2 p3 p4 p5 p6 l1 m1 y1 y2 y3 x71 hT1 ga ga1 c; lia)
  refine ⟨⟨hT1, VT_a x1 q1 t2, e1, by (clear ho t1 t2 t3 t5 t6 g l s u1 u2 u3 w r d m n f1 e1 x1 q1 c1 c2 c3 c4 c5 c6 c7 d1 d2 d3 d4 p1 p3 p4 p5 p6 l1 m1 y1 y2 y3 x71 hT1 ga ga1 hp; omega), by (clear ho t1 t2 t3 t4 t6 g l s u1 u2 u3 w r d m n f1 e1 x1 q1 c1 c2 c3 c4 c5 c6 c7 d1 d2 d3 d4 p1 p2 p4 p5 p6 l1 m1 y1 y2 y3 x71 hT1 ga ga1 hp; lia), by (clear ho t1 t2 t3 t4 t5 t6 g l s u1 u2 u3 w r d m f1 e1 x1 q1 c1 c2 c3 c4 c5 c6 c7 d1 d2 d3 d4 p1 p2 p3 p5 p6 l1 m1 y1 y2 y3 x71 hT1 ga ga1 hp; lia)⟩, GT_F (GT_a x1 q1 g) f1.1 hp, l1, stt9_a x1 q1 s, ⟨by rw [x1.2.1 29 (by decide)]; exact u1, u2, ?_⟩, by (clear ho t1 t2 t3 t4 t5 t6 g l s u1 u2 u3 r d m n f1 e1 x1 q1 c1 c2 c3 c4 c5 c6 c7 d1 d2 d3 d4 p1 p2 p3 p4 p5 l1 m1 y1 y2 y3 x71 hT1 ga ga1 hp; lia), by (clear ho t1 t2 t3 t4 t5 t6 g l s u1 u2 u3 w d m n f1 e1 x1 q1 c1 c2 c3 c4 c5 c6 c7 d1 d2 d3 d4 p1 p2 p3 p4 p6 l1 m1 y1 y2 y3 x71 hT1 ga ga1 hp; omega), by (clear t1 t2 t3 t4 t5 t6 g l s u1 u2 u3 w r m n f1 e1 x1 q1 c1 c2 c3 c4 c5 c6 d1 d2 d3 d4 p1 p2 p3 p4 p5 p6 l1 m1 y1 y2 y3 x71 hT1 ga ga1 hp; omega), m1, ?_, by (clear ho t1 t2 t3 t4 t5 t6 g l s u1 u2 u3 w r d m f1 e1 x1 q1 c1 c2 c3 c4 c5 c6 c7 d1 d2 d3 d4 p1 p2 p3 p5 p6 l1 m1 y1 y2 y3 x71 hT1 ga ga1 hp; lia)⟩
  · rw [x1.2.1 29 (by decide), XA_r x1 (r := 66) (by decide), QA_r q1 (r := 215) (by decide)]; exact u3
  · rcases bl01 e1 with hb | hb
    · rw [y2 hb]; exact n.1
    · have hl : lc_ b M1 = M1 1 19 := by unfold lc_; rw [if_neg (by omega)]
      have hl0 : lc_ b Mx = Mx 1 19 := by unfold lc_; rw [if_neg (by omega)]
      (clear ho t1 t2 t3 t4 t5 t6 g l s u1 u2 u3 w r d m f1 e1 x1 q1 c1 c2 c3 c4 c5 c6 c7 d1 d2 d3 d4 p1 p2 p3 p4 p5 p6 l1 m1 y2 y3 x71 hT1 ga ga1 hp hb; lia)
theorem PRC_tc [Inhabited gh_] (hb : b = 1) (h : PRC b F F' Mx Mq M1 N1 a a1 o o1 me) {T : Int} : tc_ T Mq N1 := by
  obtain ⟨f1, e1, ⟨x1, q1⟩, _, _, _, _, _, _, t3⟩ := h
  exact ⟨⟨QA_r q1 (by decide), QA_r q1 (by decide), QA_r q1 (by decide), QA_r q1 (by decide), QA_r q1 (by decide)⟩, QA_r q1 (by decide), QA_r q1 (by decide), QA_r q1 (by decide), QA_r q1 (by decide), by rw [(t3 hb).2.2.1], q1.2 17 (by decide), q1.2 18 (by decide), q1.2 19 (by decide)⟩
theorem SEM_tr [Inhabited gh_] (hp : PS b F Mx Mq a o me) (h1 : PRC b F F' Mx Mq M1 N1 a a1 o o1 me) (h2 : PRC b F' F2 M1 N1 M2 N2 a1 a2 o1 o2 me) (s1 : SEM b Mx Mq M1 N1 v1) (s2 : SEM b M1 N1 M2 N2 v2) : SEM b Mx Mq M2 N2 v2 := by
  intro hb h0
  obtain ⟨z2, g2, y2⟩ := s2 hb h0
  obtain ⟨z1, g1, y1⟩ := s1 hb z2
  have ht := PRC_tc hb h2 (T := Mq 6 61)
  obtain ⟨f1, e1, ⟨x1, q1⟩, ⟨⟨c1, c2, c3, c4, c5, c6, c7⟩, d1, d2, d3, d4⟩, ⟨p1, p2, p3, p4, p5, p6⟩, l1, m1, t1, t2, t3⟩ := h1
  obtain ⟨g1', e2, ⟨x2, q2⟩, ⟨⟨k1, k2, k3, k4, k5, k6, k7⟩, w1, w2, w3, w4⟩, ⟨b1, b2, b3, b4, b5, b6⟩, l2, m2, u1, u2, u3⟩ := h2
  have i61 : N1 6 61 = Mq 6 61 := q1.2 61 (by decide)
  have hT : Mx 1 18 = Mq 6 61 := hp.1.2.1.2.1.symm
  have i18 : M1 1 18 = Mx 1 18 := x1.2.1 18 (by decide)
  rw [i61] at g2
  have a75 := hp.1.2.2.2.1.1
  have a53 := (ER_st hp.1.2.2.1).1
  have a90 := hp.2.2.2.2.2.2.1.1
  have hl : lc_ b M1 = M1 1 19 := by unfold lc_; rw [if_neg (by (clear hp s1 s2 h0 z2 g2 y2 z1 g1 y1 ht f1 e1 x1 q1 c1 c2 c3 c4 c5 c6 c7 d1 d2 d3 d4 p1 p2 p3 p4 p5 p6 l1 m1 t1 t2 t3 g1' e2 x2 q2 k1 k2 k3 k4 k5 k6 k7 w1 w2 w3 w4 b1 b2 b3 b4 b5 b6 l2 m2 u1 u2 u3 i61 hT i18 a75 a53 a90; lia))]
  refine ⟨z1, SEG_tr (by (clear hp s1 s2 hb h0 z2 g2 y2 z1 g1 y1 ht f1 e1 x1 q1 c1 c2 c3 c4 c5 c6 c7 d1 d2 d3 d4 p1 p3 p4 p5 p6 l1 m1 t1 t2 t3 g1' e2 x2 q2 k1 k2 k3 k4 k5 k6 k7 w1 w2 w3 w4 b1 b2 b3 b4 b5 b6 l2 m2 u1 u2 u3 i61 hT i18 a75 a53 a90 hl; omega)) (by (clear hp s1 s2 hb h0 z2 g2 y2 z1 g1 y1 ht f1 e1 x1 q1 c1 c2 c3 c4 c5 c6 c7 d1 d2 d3 d4 p1 p2 p3 p4 p5 p6 l1 m1 t1 t2 t3 g1' e2 x2 q2 k1 k2 k3 k4 k5 k6 k7 w1 w2 w3 w4 b1 b3 b4 b5 b6 l2 m2 u1 u2 u3 i61 hT i18 a75 a53 a90 hl; omega)) (by (clear hp s1 s2 hb h0 z2 g2 y2 z1 g1 y1 ht f1 e1 x1 q1 c1 c2 c3 c4 c5 c6 c7 d1 d2 d3 d4 p1 p2 p3 p4 p6 l1 m1 t1 t2 t3 g1' e2 x2 q2 k1 k2 k3 k4 k5 k6 k7 w1 w2 w3 w4 b1 b2 b3 b4 b5 b6 l2 m2 u1 u2 u3 i61 hT i18 a75 a53 a90 hl; omega)) (by (clear hp s1 s2 hb h0 z2 g2 y2 z1 g1 y1 ht f1 e1 x1 q1 c1 c2 c3 c4 c5 c6 c7 d1 d2 d3 d4 p1 p2 p3 p4 p5 p6 l1 m1 t1 t2 t3 g1' e2 x2 q2 k1 k2 k3 k4 k5 k6 k7 w1 w2 w3 w4 b1 b2 b3 b4 b6 l2 m2 u1 u2 u3 i61 hT i18 a75 a53 a90 hl; omega)) (SEG_c g1 (fun i a b => k1 i (by (clear hp s1 s2 hb h0 z2 g2 y2 z1 g1 y1 ht f1 e1 x1 q1 c1 c2 c3 c4 c5 c6 c7 d1 d2 d3 d4 p1 p2 p3 p4 p5 p6 l1 m1 t1 t2 t3 g1' e2 x2 q2 k1 k2 k3 k4 k5 k6 k7 w1 w2 w3 w4 b1 b2 b3 b4 b5 b6 l2 m2 u1 u2 u3 i61 hT i18 a75 a90 hl b; lia)) b) (fun i a b => ⟨k5 216 i (by decide) (by (clear hp s1 s2 hb h0 z2 g2 y2 z1 g1 y1 ht f1 e1 x1 q1 c1 c2 c3 c4 c5 c6 c7 d1 d2 d3 d4 p1 p2 p3 p4 p5 p6 l1 m1 t1 t2 t3 g1' e2 x2 q2 k1 k2 k3 k4 k5 k6 k7 w1 w2 w3 w4 b1 b2 b3 b4 b5 b6 l2 m2 u1 u2 u3 i61 hT i18 a75 a53 hl b; lia)) b, k5 217 i (by decide) (by omega) b, k5 218 i (by decide) (by omega) b, k5 219 i (by decide) (by omega) b⟩) (fun r i hr a b => k2 r i hr (by (clear hp s1 s2 hb h0 z2 g2 y2 z1 g1 y1 ht f1 e1 x1 q1 c1 c2 c3 c4 c5 c6 c7 d1 d2 d3 d4 p1 p2 p3 p4 p5 p6 l1 m1 t1 t2 t3 g1' e2 x2 q2 k1 k2 k3 k4 k5 k6 k7 w1 w2 w3 w4 b1 b2 b3 b4 b5 b6 l2 m2 u1 u2 u3 i61 hT i18 a53 a90 hl hr b; lia)) b) (fun i a b => k3 i (by (clear hp s1 s2 hb h0 z2 g2 y2 z1 g1 y1 ht f1 e1 x1 q1 c1 c2 c3 c4 c5 c6 c7 d1 d2 d3 d4 p1 p2 p3 p4 p5 p6 l1 m1 t1 t2 t3 g1' e2 x2 q2 k1 k2 k3 k4 k5 k6 k7 w1 w2 w3 w4 b1 b2 b3 b4 b5 b6 l2 m2 u1 u2 u3 i61 hT i18 a53 a90 hl b; lia)) b) k4 ht (by (clear hp s1 s2 hb h0 z2 g2 y2 z1 g1 y1 ht f1 e1 x1 q1 c1 c2 c3 c4 c5 c6 c7 d1 d2 d3 d4 p1 p2 p3 p4 p5 p6 l1 m1 t1 t2 t3 g1' e2 x2 q2 k1 k2 k3 k4 k5 k6 k7 w1 w2 w3 w4 b1 b2 b4 b5 b6 l2 m2 u1 u2 u3 i61 hT i18 a75 a53 a90 hl; omega)) (fun l a b => ?_)) g2, ?_⟩
  · have := w4 (10 * Mq 6 61 + l) (.inl (by rw [i18, hT, hl]; (clear hp s1 s2 hb h0 z2 g2 y2 z1 g1 y1 ht f1 e1 x1 q1 c1 c2 c3 c4 c5 c6 c7 d1 d2 d3 d4 p1 p2 p3 p4 p5 p6 l1 m1 t1 t2 t3 g1' e2 x2 q2 k1 k2 k3 k4 k5 k6 k7 w1 w2 w3 w4 b1 b2 b3 b4 b5 b6 l2 m2 u1 u2 u3 i61 hT i18 a75 a53 a90 hl a; lia)))
    exact ⟨this.1.2, this.2.2.2.1⟩
  · have key : ∀ (w : Int) (s : Int), (∃ k, (Mq 6 75 ≤ k ∧ k < N2 6 75) ∧ N2 203 k = w ∧ N2 205 k = s) ↔ (∃ k, (Mq 6 75 ≤ k ∧ k < N1 6 75) ∧ N1 203 k = w ∧ N1 205 k = s) ∨ (∃ k, (N1 6 75 ≤ k ∧ k < N2 6 75) ∧ N2 203 k = w ∧ N2 205 k = s) := by
      intro w s
      constructor
      · rintro ⟨k, ⟨h1, h2⟩, h3, h4⟩
        by_cases c : k < N1 6 75
        · exact .inl ⟨k, ⟨h1, c⟩, by rw [← k2 203 k (by decide) (by (clear hp s1 s2 hb h0 z2 g2 y2 z1 g1 y1 ht f1 e1 x1 q1 c1 c2 c3 c4 c5 c6 c7 d1 d2 d3 d4 p1 p2 p3 p4 p5 p6 l1 m1 t1 t2 t3 g1' e2 x2 q2 k1 k2 k3 k4 k5 k6 k7 w1 w2 w3 w4 b1 b2 b3 b4 b5 b6 l2 m2 u1 u2 u3 i61 hT i18 a53 a90 hl h2 h3 h4 c; lia)) c]; exact h3, by rw [← k2 205 k (by decide) (by omega) c]; exact h4⟩
        · exact .inr ⟨k, ⟨by (clear hp s1 s2 hb h0 z2 g2 y2 z1 g1 y1 ht f1 e1 x1 q1 c1 c2 c3 c4 c5 c6 c7 d1 d2 d3 d4 p1 p2 p3 p4 p5 p6 l1 m1 t1 t2 t3 g1' e2 x2 q2 k1 k2 k3 k4 k5 k6 k7 w1 w2 w3 w4 b1 b2 b3 b4 b5 b6 l2 m2 u1 u2 u3 i61 hT i18 a75 a53 a90 hl h1 h2 h3 h4; omega), h2⟩, h3, h4⟩
      · rintro (⟨k, ⟨h1, h2⟩, h3, h4⟩ | ⟨k, ⟨h1, h2⟩, h3, h4⟩)
        · exact ⟨k, ⟨h1, by (clear hp s1 s2 hb h0 z2 g2 y2 z1 g1 y1 ht f1 e1 x1 q1 c1 c2 c3 c4 c5 c6 c7 d1 d2 d3 d4 p1 p2 p3 p4 p5 p6 l1 m1 t1 t2 t3 g1' e2 x2 q2 k1 k2 k3 k4 k5 k6 k7 w1 w2 w3 w4 b1 b3 b4 b5 b6 l2 m2 u1 u2 u3 i61 hT i18 a75 a53 a90 hl h1 h3 h4; omega)⟩, by rw [k2 203 k (by decide) (by omega) h2]; exact h3, by rw [k2 205 k (by decide) (by omega) h2]; exact h4⟩
        · exact ⟨k, ⟨by (clear hp s1 s2 hb h0 z2 g2 y2 z1 g1 y1 ht f1 e1 x1 q1 c1 c2 c3 c4 c5 c6 c7 d1 d2 d3 d4 p1 p3 p4 p5 p6 l1 m1 t1 t2 t3 g1' e2 x2 q2 k1 k2 k3 k4 k5 k6 k7 w1 w2 w3 w4 b1 b2 b3 b4 b5 b6 l2 m2 u1 u2 u3 i61 hT i18 a75 a53 a90 hl h2 h3 h4; omega), h2⟩, h3, h4⟩
    refine ⟨fun s a b => ?_, fun s a b => ?_⟩
    · rw [y2.1 s a b, y1.1 s a b, key, or_assoc]
    · rw [y2.2 s a b, y1.2 s a b, key, or_assoc]
end PR
end T131_pr
section T132_pa
/-! an act, a last: as parts of parts -/
section PA
variable {b F F' F2 : Int} {Mx Mq Mx' Mq' Ma MX MQ M1 N1 M2 N2 : mm_} {a a' a1 a2 o o' o1 o2 me v v1 v2 w : Int}
theorem or_bt [Inhabited gh_] {x k : Int} {m : Nat} (hm : m ≤ 31) (h0 : 0 ≤ x) (h1 : x < ((2 ^ m : Nat) : Int)) (k0 : 0 ≤ k) (k1 : k < (m : Int)) : (0 ≤ or_ x (sl_ 1 k) ∧ or_ x (sl_ 1 k) < ((2 ^ m : Nat) : Int)) ∧ ∀ l : Int, 0 ≤ l → (bt_ (or_ x (sl_ 1 k)) l ↔ bt_ x l ∨ l = k) := by
  obtain ⟨n, hn⟩ := Int.eq_ofNat_of_zero_le h0
  obtain ⟨j, hj⟩ := Int.eq_ofNat_of_zero_le k0
  have hp : (2 ^ m : Nat) ≤ 2 ^ 31 := Nat.pow_le_pow_right (by decide) hm
  have hnb : n < 2 ^ m := by rw [hn] at h1; exact_mod_cast h1
  have hjm : j < m := by (clear hm h0 h1 k0 hn hp hnb; omega)
  have h2j : (2 : Nat) ^ j < 2 ^ m := Nat.pow_lt_pow_right (by decide) hjm
  have e : or_ x (sl_ 1 k) = ((n ||| 2 ^ j : Nat) : Int) := by
    rw [hn, hj, sl_1 (by (clear h0 h1 k0 hn hp hnb hjm h2j; lia))]
    exact or_nat (by (clear hm h0 k0 k1 hj hnb hjm h2j; omega)) (by omega)
  rw [e]
  refine ⟨⟨by (clear hm h0 h1 k0 k1 hn hj hp hnb hjm h2j e; omega), by exact_mod_cast Nat.or_lt_two_pow hnb h2j⟩, fun l l0 => ?_⟩
  obtain ⟨i, hi⟩ := Int.eq_ofNat_of_zero_le l0
  unfold bt_
  rw [hn, hi, Int.toNat_natCast, Int.toNat_natCast, Int.toNat_natCast, Nat.testBit_or, Bool.or_eq_true, Nat.testBit_two_pow, decide_eq_true_eq]
  constructor
  · rintro (h | h)
    · exact .inl h
    · right; rw [hj, h]
  · rintro (h | h)
    · exact .inl h
    · right; rw [hj] at h; exact (Int.ofNat.inj h).symm
theorem LBT_c [Inhabited gh_] (h : LBT b F Mx Mq a) (hx : XA Mx M1) (hq : QA Mq N1) (h62 : M1 62 = Mx 62) (h128 : M1 128 = Mx 128) (h175 : N1 175 = Mq 175) (h180 : N1 180 = Mq 180) (h187 : N1 187 = Mq 187) (ha : a ≤ a1) : LBT b F M1 N1 a1 := by
  unfold LBT LBG lbl9 nm9_ gd_ at *
  rw [hx.2.1 18 (by decide), XA_r hx (r := 70) (by decide), XA_r hx (r := 71) (by decide), QA_r hq (r := 151) (by decide), h62, h128, h175, h180, h187]
  refine ⟨h.1, fun k k0 k1 => ?_, h.2.2⟩
  have := h.2.1 k k0 k1
  exact ⟨this.1, fun hb => by have := this.2.1 hb; (clear h hx hq h62 h128 h175 h180 h187 k0 k1 hb; omega), this.2.2⟩
/-- an act with its count -/
theorem AR_P [Inhabited gh_] (hp : PS b F Mx Mq a o me) (hP : PXL b Mx Ma [Mx 71 a, 30]) (hM : SM Ma MX w v) (hw : 1 ≤ w ∧ w ≤ 5) (hA : AR b F MX Mq Mx' Mq' a a' o w v) : PRC b F F Mx Mq Mx' Mq' a a' o o me ∧ SEM b Mx Mq Mx' Mq' 0 := by
  have h01 := bl01 (PS_E hp)
  have hps := hp
  obtain ⟨⟨t1, t2, t3, t4, t5, t6⟩, g, l, s, ⟨u1, u2, u3⟩, w0, r, d, m, n⟩ := hp
  obtain ⟨P1, P2, P3, P4, P5, P6, P7⟩ := hP
  obtain ⟨A1, A2, A3, A4, A5, A6, A7, A8, A9, A10, A11, A12, A13, A14⟩ := hA
  have len : ((([Mx 71 a, 30] : List Int).length : Nat) : Int) = 2 := rfl
  rw [len] at P7
  -- the base
  have mr : ∀ r : Nat, r ≠ 1 → MX r = Ma r := fun r hr => by
    rcases hM with ⟨e, _⟩ | ⟨_, _, e⟩ | ⟨_, _, e⟩
    · rw [e]
    · rw [e, up_ne hr]
    · rw [e, up_ne hr]
  have mi : ∀ i : Int, i ≠ 21 → i ≠ 23 → MX 1 i = Ma 1 i := fun i h1 h3 => by
    rcases hM with ⟨e, _⟩ | ⟨_, _, e⟩ | ⟨_, _, e⟩
    · rw [e]
    · rw [e, up_off h1]
    · rw [e, up_off h3]
  have xa : XA Ma MX := by
    rcases hM with ⟨e, _⟩ | ⟨_, _, e⟩ | ⟨_, _, e⟩
    · rw [e]; exact XA_rf
    · rw [e]; exact XA_u1 (by decide)
    · rw [e]; exact XA_u1 (by decide)
  have xA : XA Mx Mx' := XA_tr (XA_tr (XF_XA P1) xa) (XC_XA A2)
  have qA : QA Mq Mq' := QC_QA A3
  have pr : ∀ r : Nat, r ≠ 1 → r ≠ 5 → r ≠ 142 → Mx' r = Mx r := fun r a b c => by rw [A2.1 r (by unfold xcL; simp only [List.mem_cons, List.not_mem_nil, or_false, not_or]; exact ⟨a, b, c⟩), mr r a, XF_70 P1 a b c]
  have qr : ∀ r : Nat, r ∉ qcL → Mq' r = Mq r := fun r hr => A3.1 r hr
  have x5 : MX 5 3 = Ma 5 3 := by rw [mr 5 (by decide)]
  have x142 : MX 142 = Ma 142 := mr 142 (by decide)
  have y53 : Mx 5 3 ≤ MX 5 3 ∧ MX 5 3 ≤ Mx 5 3 + 2 := by (clear hM hw h01 hps t1 t2 t3 t4 t5 t6 g l s u1 u2 u3 w0 r d m n P1 P2 P3 P4 P5 A1 A2 A3 A4 A5 A6 A7 A8 A9 A10 A11 A12 A13 A14 len mr mi xa xA qA pr qr x142; omega)
  have x17 : MX 1 7 = Mx 1 7 := by rw [mi 7 (by decide) (by decide), P2]
  have x71 : MX 71 = Mx 71 := by rw [mr 71 (by decide), XF_70 P1 (by decide) (by decide) (by decide)]
  have c19 : Mx' 1 19 = Mx 1 19 := by rw [A2.2.1 19 (by decide), mi 19 (by decide) (by decide), P2]
  have lc : lc_ b Mx' = lc_ b Mx := lc_c xA (pr 128 (by decide) (by decide) (by decide)) c19
  -- what is sent and made
  have y21 : Mx' 1 21 = MX 1 21 := A2.2.1 21 (by decide)
  have y23 : Mx' 1 23 = MX 1 23 := A2.2.1 23 (by decide)
  have z21 : Ma 1 21 = Mx 1 21 := by rw [P2]
  have z23 : Ma 1 23 = Mx 1 23 := by rw [P2]
  have S : b = 1 → ((0 ≤ Mx' 1 21 ∧ Mx' 1 21 < 1048576) ∧ ∀ q, 0 ≤ q → (bt_ (Mx' 1 21) q ↔ bt_ (Mx 1 21) q ∨ (w = 2 ∧ v = q))) ∧ ((0 ≤ Mx' 1 23 ∧ Mx' 1 23 < 64) ∧ ∀ q, 0 ≤ q → (bt_ (Mx' 1 23) q ↔ bt_ (Mx 1 23) q ∨ (w = 5 ∧ v = q))) := fun hb => by
    rw [y21, y23]
    rcases hM with ⟨e, e2⟩ | ⟨e2, e3, e⟩ | ⟨e2, e3, e⟩
    · rw [e, z21, z23]
      refine ⟨⟨m.2.1 hb, fun q h => ⟨fun h => .inl h, fun h2 => ?_⟩⟩, m.2.2 hb, fun q h => ⟨fun h => .inl h, fun h2 => ?_⟩⟩
      · rcases h2 with h2 | h2
        · exact h2
        · (clear hw h01 hps t1 t2 t3 t4 t5 t6 g l s u1 u2 u3 w0 r d m n P1 P2 P3 P4 P5 P6 P7 A1 A2 A3 A4 A5 A6 A7 A8 A9 A10 A11 A12 A14 len mr mi xa xA qA pr qr x5 x142 y53 x17 x71 c19 lc y21 y23 z21 z23 hb e; lia)
      · rcases h2 with h2 | h2
        · exact h2
        · (clear hw h01 hps t1 t2 t3 t4 t5 t6 g l s u1 u2 u3 w0 r d m n P1 P2 P3 P4 P5 P6 P7 A1 A2 A3 A4 A5 A6 A7 A8 A9 A10 A11 A12 A14 len mr mi xa xA qA pr qr x5 x142 y53 x17 x71 c19 lc y21 y23 z21 z23 hb e; lia)
    · have := or_bt (m := 20) (x := Mx 1 21) (k := v) (by decide) (m.2.1 hb).1 (m.2.1 hb).2 e3.1 e3.2
      rw [e, up_at, up_off (by decide), z21, z23]
      refine ⟨⟨this.1, fun q h => ?_⟩, m.2.2 hb, fun q h => ⟨fun h => .inl h, fun h2 => ?_⟩⟩
      · rw [this.2 q h]
        constructor
        · rintro (h | h)
          · exact .inl h
          · exact .inr ⟨e2, h.symm⟩
        · rintro (h | h)
          · exact .inl h
          · exact .inr h.2.symm
      · rcases h2 with h2 | h2
        · exact h2
        · (clear hw h01 hps t1 t2 t3 t4 t5 t6 g l s u1 u2 u3 w0 r d m n P1 P2 P3 P4 P5 P6 P7 A1 A2 A3 A4 A5 A6 A7 A8 A9 A10 A11 A12 A14 len mr mi xa xA qA pr qr x5 x142 y53 x17 x71 c19 lc y21 y23 z21 z23 hb e3 e this h; lia)
    · have := or_bt (m := 6) (x := Mx 1 23) (k := v) (by decide) (m.2.2 hb).1 (m.2.2 hb).2 e3.1 e3.2
      rw [e, up_at, up_off (by decide), z21, z23]
      refine ⟨⟨m.2.1 hb, fun q h => ⟨fun h => .inl h, fun h2 => ?_⟩⟩, this.1, fun q h => ?_⟩
      · rcases h2 with h2 | h2
        · exact h2
        · (clear hw h01 hps t1 t2 t3 t4 t5 t6 g l s u1 u2 u3 w0 r d m n P1 P2 P3 P4 P5 P6 P7 A1 A2 A3 A4 A5 A6 A7 A8 A9 A10 A11 A12 A14 len mr mi xa xA qA pr qr x5 x142 y53 x17 x71 c19 lc y21 y23 z21 z23 hb e3 e this h; lia)
      · rw [this.2 q h]
        constructor
        · rintro (h | h)
          · exact .inl h
          · exact .inr ⟨e2, h.symm⟩
        · rintro (h | h)
          · exact .inl h
          · exact .inr h.2.symm
  have i29 : Mx' 1 29 = Mx 1 29 := xA.2.1 29 (by decide)
  have code : ∀ i, 0 ≤ i → i < Mx 5 3 → Mx' 142 i = Mx 142 i := fun i a b => by rw [A9 i a (by (clear hM hw h01 hps t1 t2 t3 t4 t5 t6 g l s u1 u2 u3 w0 r d m n P1 P2 P3 P4 P5 A1 A2 A3 A4 A5 A6 A7 A8 A9 A10 A11 A12 A13 A14 len mr mi xa xA qA pr qr x142 y53 x17 x71 c19 lc y21 y23 z21 z23 S i29 a; lia)), x142, P5 i b]
  have s53 := (ER_st t3).1
  constructor
  · refine ⟨⟨Int.le_refl _, fun _ => rfl⟩, A4, ⟨xA, qA⟩, ⟨⟨code, A10, A11, A7, fun r i hr _ _ => by rw [qr r (by unfold rgR at hr; unfold qcL; simp only [List.mem_cons, List.not_mem_nil, or_false] at hr ⊢; (clear hM hw h01 hps t1 t2 t3 t4 t5 t6 g l s u1 u2 u3 w0 d m n P1 P2 P3 P4 P5 P6 P7 A1 A2 A3 A4 A5 A6 A7 A8 A9 A10 A11 A12 A13 A14 len mr mi xa xA qA pr qr x5 x142 y53 x17 x71 c19 lc y21 y23 z21 z23 S i29 code s53; omega))], fun r i hr _ _ => by rw [qr r (by unfold dsR at hr; unfold qcL; simp only [List.mem_cons, List.not_mem_nil, or_false] at hr ⊢; (clear hM hw h01 hps t1 t2 t3 t4 t5 t6 g l s u1 u2 u3 w0 d m n P1 P2 P3 P4 P5 P6 P7 A1 A2 A3 A4 A5 A6 A7 A8 A9 A10 A11 A12 A13 A14 len mr mi xa xA qA pr qr x5 x142 y53 x17 x71 c19 lc y21 y23 z21 z23 S i29 code s53; omega))], A3.2 102 (by decide)⟩, fun i _ => ?_, fun i _ => ?_, fun i _ => ?_, fun i _ => ?_⟩, ⟨by (clear hM hw h01 hps t1 t2 t3 t4 t5 t6 g l s u1 u2 u3 w0 r d m n P1 P2 P3 P4 P5 P6 P7 A2 A3 A4 A5 A6 A7 A8 A9 A10 A11 A12 A13 A14 len mr mi xa xA qA pr qr x5 x142 y53 x17 x71 c19 lc y21 y23 z21 z23 S i29 code s53; lia), by (clear hM hw h01 hps t1 t2 t3 t4 t5 t6 g l s u1 u2 u3 w0 r d m n P1 P2 P3 P4 P5 P6 P7 A1 A2 A3 A4 A6 A7 A9 A10 A11 A12 A13 A14 len mr mi xa xA qA pr qr x5 x142 y53 x17 x71 c19 lc y21 y23 z21 z23 S i29 code s53; lia), by omega, ⟨by (clear hM hw h01 hps t1 t2 t3 t4 t5 t6 g l s u1 u2 u3 w0 r d m n P1 P2 P3 P4 P5 A1 A2 A3 A4 A5 A6 A7 A9 A10 A11 A12 A13 A14 len mr mi xa xA qA pr qr x142 y53 x17 x71 c19 lc y21 y23 z21 z23 S i29 code s53; omega), by (clear hM hw h01 hps t1 t2 t3 t4 t5 t6 g l s u1 u2 u3 w0 r d m n P1 P2 P3 P4 P5 A1 A2 A3 A4 A5 A6 A7 A9 A10 A11 A12 A13 A14 len mr mi xa xA qA pr qr x142 y53 x17 x71 c19 lc y21 y23 z21 z23 S i29 code s53; lia), fun hb => by rw [A8.2.2 hb, x5, P3 hb]⟩, by rw [A3.2 90 (by decide)]; (clear hM hw h01 hps t1 t2 t3 t4 t5 t6 g l s u1 u2 u3 w0 r d m n P1 P2 P3 P4 P5 P6 P7 A2 A3 A4 A5 A6 A7 A8 A9 A10 A11 A12 A13 A14 len mr mi xa xA qA pr qr x5 x142 y53 x17 x71 c19 lc y21 y23 z21 z23 S i29 code s53; lia), by omega⟩, LBT_c l xA qA (pr 62 (by decide) (by decide) (by decide)) (pr 128 (by decide) (by decide) (by decide)) (qr 175 (by decide)) (qr 180 (by decide)) (qr 187 (by decide)) (by omega), ⟨fun hb => ?_, fun hb => (S hb).1.1, fun hb => (S hb).2.1⟩, by (clear hM hw h01 hps t1 t2 t3 t4 t5 t6 g l s u1 u2 u3 w0 r d m n P1 P2 P3 P4 P5 P6 P7 A1 A2 A3 A4 A5 A6 A7 A8 A9 A10 A11 A12 A13 A14 len mr mi xa xA qA pr qr x5 x142 y53 x17 x71 c19 y21 y23 z21 z23 S i29 code s53; lia), fun _ => c19, fun hb => ?_⟩
    · rw [pr 63 (by decide) (by decide) (by decide), pr 64 (by decide) (by decide) (by decide), pr 65 (by decide) (by decide) (by decide)]; exact ⟨rfl, rfl, rfl⟩
    · rw [qr 213 (by decide), qr 214 (by decide)]; exact ⟨rfl, rfl⟩
    · rw [pr 128 (by decide) (by decide) (by decide), qr 175 (by decide)]; exact ⟨rfl, rfl⟩
    · rw [pr 62 (by decide) (by decide) (by decide), pr 129 (by decide) (by decide) (by decide), qr 180 (by decide), qr 187 (by decide), qr 188 (by decide), qr 189 (by decide)]; exact ⟨⟨rfl, rfl⟩, rfl, rfl, rfl, rfl⟩
    · rw [i29, xA.2.1 18 (by decide), pr 123 (by decide) (by decide) (by decide), pr 63 (by decide) (by decide) (by decide), pr 64 (by decide) (by decide) (by decide), pr 65 (by decide) (by decide) (by decide), qr 213 (by decide), qr 214 (by decide)]; exact m.1 hb
    · rw [pr 62 (by decide) (by decide) (by decide), pr 128 (by decide) (by decide) (by decide), pr 64 (by decide) (by decide) (by decide), qr 175 (by decide), qr 180 (by decide), qr 187 (by decide), c19]
      exact ⟨rfl, rfl, rfl, rfl, rfl, fun l a b => by (clear hM hw h01 hps t1 t2 t3 t4 t5 t6 g s u1 u2 u3 w0 r d m n P1 P2 P3 P4 P5 P6 P7 A1 A2 A3 A4 A5 A6 A7 A8 A9 A10 A11 A12 A13 A14 len mr mi xa xA qA pr qr x5 x142 y53 x17 x71 lc y21 y23 z21 z23 S i29 code s53 hb; omega), fun l _ _ => ⟨fun h => .inl h, fun h => by rcases h with h | h; exact h; (clear hM hw h01 hps t1 t2 t3 t4 t5 t6 g s u1 u2 u3 w0 r d m n P1 P2 P3 P4 P5 P6 P7 A1 A2 A3 A4 A5 A6 A7 A8 A9 A10 A11 A12 A13 A14 len mr mi xa xA qA pr qr x5 x142 y53 x17 x71 lc y21 y23 z21 z23 S i29 code s53 hb; omega)⟩⟩
  · intro hb h0
    obtain ⟨z0, hop⟩ := A14 hb h0
    have p4 := P4 hb
    rw [len] at p4
    obtain ⟨s1, s2, _⟩ := p4.2
    have e53 : MX 5 3 = Mx 5 3 + 2 := by (clear hM hw h01 hps t1 t2 t3 t4 t5 t6 g l s u1 u2 u3 w0 r d m n P1 P2 P3 P4 P5 P6 P7 A1 A2 A3 A4 A5 A6 A7 A8 A9 A10 A11 A12 A13 A14 len mr mi xa xA qA pr qr x142 y53 x17 x71 c19 lc y21 y23 z21 z23 S i29 code s53 hb h0 z0 hop s1 s2; lia)
    have r90 : Mq' 6 90 = Mq 6 90 := A3.2 90 (by decide)
    have c30 : Mx' 142 (Mx 5 3) = 30 := by rw [A9 _ s53 (by (clear hM hw h01 hps t1 t2 t3 t4 t5 t6 g l s u1 u2 u3 w0 r d m n P1 P2 P3 P4 P5 P6 P7 A1 A2 A3 A4 A5 A6 A7 A8 A9 A10 A11 A12 A13 A14 len mr mi xa xA qA pr qr x142 y53 x17 x71 c19 lc y21 y23 z21 z23 S i29 code s53 hb h0 z0 hop s1 s2 e53 r90; omega)), x142]; simpa using s2
    have c71 : Mx' 142 (Mx 5 3 + 1) = Mq' 204 (Mq 6 75) := by
      rw [A9 _ (by (clear hM hw h01 hps t1 t2 t3 t4 t5 t6 g l s u1 u2 u3 w0 r d m n P1 P2 P3 P4 P5 P6 P7 A1 A2 A3 A4 A5 A6 A7 A8 A9 A10 A11 A12 A13 A14 len mr mi xa xA qA pr qr x142 y53 x17 x71 c19 lc y21 y23 z21 z23 S i29 code hb h0 z0 hop s1 s2 e53 r90 c30; omega)) (by (clear hM hw h01 hps t1 t2 t3 t4 t5 t6 g l s u1 u2 u3 w0 r d m n P1 P2 P3 P4 P5 P6 P7 A1 A2 A3 A4 A5 A6 A7 A8 A9 A10 A11 A12 A13 A14 len mr mi xa xA qA pr qr x142 y53 x17 x71 c19 lc y21 y23 z21 z23 S i29 code s53 hb h0 z0 hop s1 s2 e53 r90 c30; omega)), x142, A13.1, x71]; exact s1
    rw [A5, r90, c19]
    refine ⟨z0, SEG_1 (w := w) A13.2.1 (.inl ⟨hw.1, hw.2, rfl⟩) c30 c71 (by (clear hM hw h01 hps t1 t2 t3 t4 t5 t6 g l s u1 u2 u3 w0 r d m n P1 P2 P3 P4 P5 P6 P7 A1 A2 A3 A4 A5 A6 A7 A9 A10 A11 A12 A13 A14 len mr mi xa xA qA pr qr x142 y53 x17 x71 c19 lc y21 y23 z21 z23 S i29 code s53 hb h0 z0 hop s1 s2 e53 r90 c30 c71; omega)) (by rw [e53] at hop; exact hop), fun q a b => ?_, fun q a b => ?_⟩
    · rw [(S hb).1.2 q a]
      constructor
      · rintro (h | h)
        · exact .inl h
        · exact .inr ⟨Mq 6 75, ⟨by omega, by omega⟩, by rw [A13.2.1]; exact h.1, by rw [A13.2.2 (.inl h.1)]; exact h.2⟩
      · rintro (h | ⟨k, hk, h1, h2⟩)
        · exact .inl h
        · have ek : k = Mq 6 75 := by (clear hM hw h01 hps t1 t2 t3 t4 t5 t6 g l s u1 u2 u3 w0 r d m n P1 P2 P3 P4 P5 P6 P7 A1 A2 A3 A4 A6 A7 A8 A9 A10 A11 A12 A13 A14 len mr mi xa xA qA pr qr x5 x142 y53 x17 x71 c19 lc y21 y23 z21 z23 S i29 code s53 hb h0 z0 hop p4 s1 s2 e53 r90 c30 c71 a b h1 h2; omega)
          rw [ek] at h1 h2
          rw [A13.2.1] at h1
          rw [A13.2.2 (.inl h1)] at h2
          exact .inr ⟨h1, h2⟩
    · rw [(S hb).2.2 q a]
      constructor
      · rintro (h | h)
        · exact .inl h
        · exact .inr ⟨Mq 6 75, ⟨by omega, by omega⟩, by rw [A13.2.1]; exact h.1, by rw [A13.2.2 (.inr h.1)]; exact h.2⟩
      · rintro (h | ⟨k, hk, h1, h2⟩)
        · exact .inl h
        · have ek : k = Mq 6 75 := by omega
          rw [ek] at h1 h2
          rw [A13.2.1] at h1
          rw [A13.2.2 (.inr h1)] at h2
          exact .inr ⟨h1, h2⟩
end PA
end T132_pa
section T133_pa
/-! a last, a label: as parts of parts -/
section PA
variable {b F F' F2 : Int} {Mx Mq Mx' Mq' Ma MX MQ M1 N1 M2 N2 : mm_} {a a' a1 a2 o o' o1 o2 me v v1 v2 w : Int}
theorem LA_P [Inhabited gh_] (hp : PS b F Mx Mq a o me) (hP : PXL b Mx Ma [Mx 71 a, 30]) (hM : LM b Ma Mq me MX MQ) (hw : 8 ≤ w ∧ w ≤ 10) (hA : AR b F MX MQ Mx' Mq' a a' o w 0) : PRC b F F Mx Mq Mx' Mq' a a' o o me ∧ SEM b Mx Mq Mx' Mq' 1 := by
  have h01 := bl01 (PS_E hp)
  obtain ⟨⟨t1, t2, t3, t4, t5, t6⟩, g, l, s, ⟨u1, u2, u3⟩, w0, r, d, m, n⟩ := hp
  obtain ⟨P1, P2, P3, P4, P5, P6, P7⟩ := hP
  obtain ⟨lx, lq⟩ := LM_A hM
  obtain ⟨A1, A2, A3, A4, A5, A6, A7, A8, A9, A10, A11, A12, A13, A14⟩ := hA
  have len : ((([Mx 71 a, 30] : List Int).length : Nat) : Int) = 2 := rfl
  rw [len] at P7
  have a29 : Ma 1 29 = Mx 1 29 := by rw [P2]
  have mr : ∀ r : Nat, r ≠ 63 → r ≠ 65 → MX r = Ma r := fun r h1 h2 => by
    rcases hM with ⟨e, _⟩ | ⟨_, k, _, ⟨_, e, _⟩ | ⟨_, e, _⟩⟩
    · rw [e]
    · rw [e, up_ne h1]
    · rw [e, up_ne h2]
  have mq : ∀ r : Nat, r ≠ 213 → r ≠ 214 → MQ r = Mq r := fun r h1 h2 => by
    rcases hM with ⟨_, e⟩ | ⟨_, k, _, ⟨_, _, e⟩ | ⟨_, _, e⟩⟩
    · rw [e]
    · rw [e, up_ne h1]
    · rw [e, up_ne h2]
  have a63 : ∀ r : Nat, r ≠ 1 → r ≠ 5 → r ≠ 142 → Ma r = Mx r := fun r a b c => XF_70 P1 a b c
  -- the masks
  have K : (∀ i, i ≠ Mx 1 29 - 1 → MX 63 i = Mx 63 i ∧ MX 65 i = Mx 65 i) ∧ (∀ i, i ≠ me → MQ 213 i = Mq 213 i ∧ MQ 214 i = Mq 214 i) ∧ (b = 1 → (MX 63 (Mx 1 29 - 1) = MQ 213 me ∧ 0 ≤ MX 63 (Mx 1 29 - 1) ∧ MX 63 (Mx 1 29 - 1) < wM (Mx 123 (Mx 1 18))) ∧ (MX 65 (Mx 1 29 - 1) = MQ 214 me ∧ 0 ≤ MX 65 (Mx 1 29 - 1) ∧ MX 65 (Mx 1 29 - 1) < 1024)) := by
    rcases hM with ⟨e, e2⟩ | ⟨hb, k, hk, ⟨hk3, e, e2⟩ | ⟨hk2, e, e2⟩⟩
    · rw [e, e2, a63 63 (by decide) (by decide) (by decide), a63 65 (by decide) (by decide) (by decide)]
      exact ⟨fun _ _ => ⟨rfl, rfl⟩, fun _ _ => ⟨rfl, rfl⟩, fun hb => ⟨(m.1 hb).1, (m.1 hb).2.1⟩⟩
    · rw [a29, a63 63 (by decide) (by decide) (by decide)] at e
      have q := m.1 hb
      rw [a63 123 (by decide) (by decide) (by decide), P2] at hk3
      have := or_bt (m := (Mx 123 (Mx 1 18)).toNat) (x := Mx 63 (Mx 1 29 - 1)) (k := k) (by have := s.1.2.1; (clear hw h01 t1 t2 t3 t4 t5 t6 g l s u1 u2 u3 w0 r d m n P1 P2 P3 P4 P5 P6 P7 lx lq A1 A2 A3 A4 A5 A6 A7 A8 A9 A10 A11 A12 A13 A14 len a29 mr mq a63 hb hk hk3 e e2 q; omega)) q.1.2.1 q.1.2.2 hk.1 (by (clear hw h01 t1 t2 t3 t4 t5 t6 g l s u1 u2 u3 w0 r d m n P1 P2 P3 P4 P5 P6 P7 lx lq A1 A2 A3 A4 A5 A6 A7 A8 A9 A10 A11 A12 A13 A14 len a29 mr mq a63 hb e e2 q; omega))
      rw [e, e2]
      refine ⟨fun i hi => ⟨by rw [up_off hi, a63 63 (by decide) (by decide) (by decide)], by rw [up_ne (by decide), a63 65 (by decide) (by decide) (by decide)]⟩, fun i hi => ⟨by rw [up_off hi], by rw [up_ne (by decide)]⟩, fun _ => ⟨?_, ?_⟩⟩
      · rw [up_at, up_at, ← q.1.1]; exact ⟨rfl, this.1⟩
      · rw [up_ne (by decide), up_ne (by decide), a63 65 (by decide) (by decide) (by decide)]; exact q.2.1
    · rw [a29, a63 65 (by decide) (by decide) (by decide)] at e
      have q := m.1 hb
      have := or_bt (m := 10) (x := Mx 65 (Mx 1 29 - 1)) (k := k) (by decide) q.2.1.2.1 q.2.1.2.2 hk.1 hk2
      rw [e, e2]
      refine ⟨fun i hi => ⟨by rw [up_ne (by decide), a63 63 (by decide) (by decide) (by decide)], by rw [up_off hi, a63 65 (by decide) (by decide) (by decide)]⟩, fun i hi => ⟨by rw [up_ne (by decide)], by rw [up_off hi]⟩, fun _ => ⟨?_, ?_⟩⟩
      · rw [up_ne (by decide), up_ne (by decide), a63 63 (by decide) (by decide) (by decide)]; exact q.1
      · rw [up_at, up_at, ← q.2.1.1]; exact ⟨rfl, this.1⟩
  have xA : XA Mx Mx' := XA_tr (XA_tr (XF_XA P1) lx) (XC_XA A2)
  have qA : QA Mq Mq' := QA_tr lq (QC_QA A3)
  have px : ∀ r : Nat, r ≠ 1 → r ≠ 5 → r ≠ 142 → Mx' r = MX r := fun r a b c => A2.1 r (by unfold xcL; simp only [List.mem_cons, List.not_mem_nil, or_false, not_or]; exact ⟨a, b, c⟩)
  have pr : ∀ r : Nat, r ≠ 1 → r ≠ 5 → r ≠ 142 → r ≠ 63 → r ≠ 65 → Mx' r = Mx r := fun r a b c h1 h2 => by rw [px r a b c, mr r h1 h2, a63 r a b c]
  have qr : ∀ r : Nat, r ∉ qcL → r ≠ 213 → r ≠ 214 → Mq' r = Mq r := fun r hr h1 h2 => by rw [A3.1 r hr, mq r h1 h2]
  have q6 : ∀ i : Int, i ∉ qcI → Mq' 6 i = Mq 6 i := fun i hi => by rw [A3.2 i hi, mq 6 (by decide) (by decide)]
  have m6 : MQ 6 = Mq 6 := mq 6 (by decide) (by decide)
  have x5 : MX 5 3 = Ma 5 3 := by rw [mr 5 (by decide) (by decide)]
  have x142 : MX 142 = Ma 142 := mr 142 (by decide) (by decide)
  have x1 : MX 1 = Mx 1 := by rw [mr 1 (by decide) (by decide), P2]
  have x71 : MX 71 = Mx 71 := by rw [mr 71 (by decide) (by decide), a63 71 (by decide) (by decide) (by decide)]
  have c19 : Mx' 1 19 = Mx 1 19 := by rw [A2.2.1 19 (by decide), x1]
  have c21 : Mx' 1 21 = Mx 1 21 := by rw [A2.2.1 21 (by decide), x1]
  have c23 : Mx' 1 23 = Mx 1 23 := by rw [A2.2.1 23 (by decide), x1]
  have lc : lc_ b Mx' = lc_ b Mx := lc_c xA (pr 128 (by decide) (by decide) (by decide) (by decide) (by decide)) c19
  have i29 : Mx' 1 29 = Mx 1 29 := xA.2.1 29 (by decide)
  have s53 := (ER_st t3).1
  rw [m6] at A5 A6 A7 A10 A11 A13 A14
  rw [x1] at A12
  have code : ∀ i, 0 ≤ i → i < Mx 5 3 → Mx' 142 i = Mx 142 i := fun i a b => by rw [A9 i a (by (clear hM hw h01 t1 t2 t3 t4 t5 t6 g l s u1 u2 u3 w0 r d m n P1 P2 P3 P4 P5 lx lq A1 A2 A3 A4 A5 A6 A7 A8 A9 A10 A11 A12 A13 A14 len a29 mr mq a63 K xA qA px pr qr q6 m6 x142 x1 x71 c19 c21 c23 lc i29 s53 a; lia)), x142, P5 i b]
  have mo : ∀ r, r ∈ opL → MQ r = Mq r := fun r hr => mq r (by unfold opL at hr; simp only [List.mem_cons, List.not_mem_nil, or_false] at hr; (clear hM hw h01 t1 t2 t3 t4 t5 t6 g l s u1 u2 u3 w0 d m n P1 P2 P3 P4 P5 P6 P7 lx lq A1 A2 A3 A4 A5 A6 A7 A8 A9 A10 A11 A12 A13 A14 len a29 mr mq a63 K xA qA px pr qr q6 m6 x5 x142 x1 x71 c19 c21 c23 lc i29 s53 code; lia)) (by unfold opL at hr; simp only [List.mem_cons, List.not_mem_nil, or_false] at hr; (clear hM hw h01 t1 t2 t3 t4 t5 t6 g l s u1 u2 u3 w0 d m n P1 P2 P3 P4 P5 P6 P7 lx lq A1 A2 A3 A4 A5 A6 A7 A8 A9 A10 A11 A12 A13 A14 len a29 mr mq a63 K xA qA px pr qr q6 m6 x5 x142 x1 x71 c19 c21 c23 lc i29 s53 code; lia))
  constructor
  · refine ⟨⟨Int.le_refl _, fun _ => rfl⟩, A4, ⟨xA, qA⟩, ⟨⟨code, fun r i hr a b => by rw [A10 r i hr a b, mo r hr], fun i a b => by rw [A11 i a b, mq 209 (by decide) (by decide)], fun i a b => by rw [(A7 i a b).1, (A7 i a b).2, mq 227 (by decide) (by decide), mq 228 (by decide) (by decide)]; exact ⟨rfl, rfl⟩, fun r i hr _ _ => by rw [qr r (by unfold rgR at hr; unfold qcL; simp only [List.mem_cons, List.not_mem_nil, or_false] at hr ⊢; (clear hM hw h01 t1 t2 t3 t4 t5 t6 g l s u1 u2 u3 w0 d m n P1 P2 P3 P4 P5 P6 P7 lx lq A1 A2 A3 A4 A5 A6 A7 A8 A9 A10 A11 A12 A13 A14 len a29 mr mq a63 K xA qA px pr qr q6 m6 x5 x142 x1 x71 c19 c21 c23 lc i29 s53 code mo; omega)) (by unfold rgR at hr; simp only [List.mem_cons, List.not_mem_nil, or_false] at hr; (clear hM hw h01 t1 t2 t3 t4 t5 t6 g l s u1 u2 u3 w0 d m n P1 P2 P3 P4 P5 P6 P7 lx lq A1 A2 A3 A4 A5 A6 A7 A8 A9 A10 A11 A12 A13 A14 len a29 mr mq a63 K xA qA px pr qr q6 m6 x5 x142 x1 x71 c19 c21 c23 lc i29 s53 code mo; omega)) (by unfold rgR at hr; simp only [List.mem_cons, List.not_mem_nil, or_false] at hr; (clear hM hw h01 t1 t2 t3 t4 t5 t6 g l s u1 u2 u3 w0 d m n P1 P2 P3 P4 P5 P6 P7 lx lq A1 A2 A3 A4 A5 A6 A7 A8 A9 A10 A11 A12 A13 A14 len a29 mr mq a63 K xA qA px pr qr q6 m6 x5 x142 x1 x71 c19 c21 c23 lc i29 s53 code mo; omega))], fun r i hr _ _ => by rw [qr r (by unfold dsR at hr; unfold qcL; simp only [List.mem_cons, List.not_mem_nil, or_false] at hr ⊢; (clear hM hw h01 t1 t2 t3 t4 t5 t6 g l s u1 u2 u3 w0 d m n P1 P2 P3 P4 P5 P6 P7 lx lq A1 A2 A3 A4 A5 A6 A7 A8 A9 A10 A11 A12 A13 A14 len a29 mr mq a63 K xA qA px pr qr q6 m6 x5 x142 x1 x71 c19 c21 c23 lc i29 s53 code mo; omega)) (by unfold dsR at hr; simp only [List.mem_cons, List.not_mem_nil, or_false] at hr; (clear hM hw h01 t1 t2 t3 t4 t5 t6 g l s u1 u2 u3 w0 d m n P1 P2 P3 P4 P5 P6 P7 lx lq A1 A2 A3 A4 A5 A6 A7 A8 A9 A10 A11 A12 A13 A14 len a29 mr mq a63 K xA qA px pr qr q6 m6 x5 x142 x1 x71 c19 c21 c23 lc i29 s53 code mo; omega)) (by unfold dsR at hr; simp only [List.mem_cons, List.not_mem_nil, or_false] at hr; (clear hM hw h01 t1 t2 t3 t4 t5 t6 g l s u1 u2 u3 w0 d m n P1 P2 P3 P4 P5 P6 P7 lx lq A1 A2 A3 A4 A5 A6 A7 A8 A9 A10 A11 A12 A13 A14 len a29 mr mq a63 K xA qA px pr qr q6 m6 x5 x142 x1 x71 c19 c21 c23 lc i29 s53 code mo; omega))], q6 102 (by decide)⟩, fun i hi => ?_, fun i hi => ?_, fun i _ => ?_, fun i _ => ?_⟩, ⟨by (clear hM hw h01 t1 t2 t3 t4 t5 t6 g l s u1 u2 u3 w0 r d m n P1 P2 P3 P4 P5 P6 P7 lx lq A2 A3 A4 A5 A6 A7 A8 A9 A10 A11 A12 A13 A14 len a29 mr mq a63 K xA qA px pr qr q6 m6 x5 x142 x1 x71 c19 c21 c23 lc i29 s53 code mo; omega), by (clear hM hw h01 t1 t2 t3 t4 t5 t6 g l s u1 u2 u3 w0 r d m n P1 P2 P3 P4 P5 P6 P7 lx lq A1 A2 A3 A4 A6 A7 A9 A10 A11 A12 A13 A14 len a29 mr mq a63 K xA qA px pr qr q6 m6 x5 x142 x1 x71 c19 c21 c23 lc i29 s53 code mo; lia), by omega, ⟨by (clear hM hw h01 t1 t2 t3 t4 t5 t6 g l s u1 u2 u3 w0 r d m n P1 P2 P3 P4 P5 lx lq A1 A2 A3 A4 A5 A6 A7 A9 A10 A11 A12 A13 A14 len a29 mr mq a63 K xA qA px pr qr q6 m6 x142 x1 x71 c19 c21 c23 lc i29 s53 code mo; omega), by (clear hM hw h01 t1 t2 t3 t4 t5 t6 g l s u1 u2 u3 w0 r d m n P1 P2 P3 P4 P5 lx lq A1 A2 A3 A4 A5 A6 A7 A9 A10 A11 A12 A13 A14 len a29 mr mq a63 K xA qA px pr qr q6 m6 x142 x1 x71 c19 c21 c23 lc i29 s53 code mo; lia), fun hb => by rw [A8.2.2 hb, x5, P3 hb]⟩, by rw [q6 90 (by decide)]; (clear hM hw h01 t1 t2 t3 t4 t5 t6 g l s u1 u2 u3 w0 r d m n P1 P2 P3 P4 P5 P6 P7 lx lq A2 A3 A4 A5 A6 A7 A8 A9 A10 A11 A12 A13 A14 len a29 mr mq a63 K xA qA px pr qr q6 m6 x5 x142 x1 x71 c19 c21 c23 lc i29 s53 code mo; lia), by (clear hM hw h01 t1 t2 t3 t4 t5 t6 g l s u1 u2 u3 w0 r d m n P1 P2 P3 P4 P5 P6 P7 lx lq A1 A2 A3 A4 A5 A6 A7 A8 A9 A10 A11 A13 A14 len a29 mr mq a63 K xA qA px pr qr q6 m6 x5 x142 x1 x71 c19 c21 c23 lc i29 s53 code mo; lia)⟩, LBT_c l xA qA (pr 62 (by decide) (by decide) (by decide) (by decide) (by decide)) (pr 128 (by decide) (by decide) (by decide) (by decide) (by decide)) (qr 175 (by decide) (by decide) (by decide)) (qr 180 (by decide) (by decide) (by decide)) (qr 187 (by decide) (by decide) (by decide)) (by omega), ⟨fun hb => ?_, by rw [c21]; exact m.2.1, by rw [c23]; exact m.2.2⟩, by (clear hM hw h01 t1 t2 t3 t4 t5 t6 g l s u1 u2 u3 w0 r d m n P1 P2 P3 P4 P5 P6 P7 lx lq A1 A2 A3 A4 A5 A6 A7 A8 A9 A10 A11 A12 A13 A14 len a29 mr mq a63 K xA qA px pr qr q6 m6 x5 x142 x1 x71 c19 c21 c23 i29 s53 code mo; lia), fun _ => c19, fun hb => ?_⟩
    · rw [px 63 (by decide) (by decide) (by decide), pr 64 (by decide) (by decide) (by decide) (by decide) (by decide), px 65 (by decide) (by decide) (by decide)]; exact ⟨(K.1 i hi).1, rfl, (K.1 i hi).2⟩
    · rw [A3.1 213 (by decide), A3.1 214 (by decide)]; exact K.2.1 i hi
    · rw [pr 128 (by decide) (by decide) (by decide) (by decide) (by decide), qr 175 (by decide) (by decide) (by decide)]; exact ⟨rfl, rfl⟩
    · rw [pr 62 (by decide) (by decide) (by decide) (by decide) (by decide), pr 129 (by decide) (by decide) (by decide) (by decide) (by decide), qr 180 (by decide) (by decide) (by decide), qr 187 (by decide) (by decide) (by decide), qr 188 (by decide) (by decide) (by decide), qr 189 (by decide) (by decide) (by decide)]; exact ⟨⟨rfl, rfl⟩, rfl, rfl, rfl, rfl⟩
    · rw [i29, xA.2.1 18 (by decide), pr 123 (by decide) (by decide) (by decide) (by decide) (by decide), px 63 (by decide) (by decide) (by decide), pr 64 (by decide) (by decide) (by decide) (by decide) (by decide), px 65 (by decide) (by decide) (by decide), A3.1 213 (by decide), A3.1 214 (by decide)]
      exact ⟨(K.2.2 hb).1, (K.2.2 hb).2, (m.1 hb).2.2⟩
    · rw [pr 62 (by decide) (by decide) (by decide) (by decide) (by decide), pr 128 (by decide) (by decide) (by decide) (by decide) (by decide), pr 64 (by decide) (by decide) (by decide) (by decide) (by decide), qr 175 (by decide) (by decide) (by decide), qr 180 (by decide) (by decide) (by decide), qr 187 (by decide) (by decide) (by decide), c19]
      exact ⟨rfl, rfl, rfl, rfl, rfl, fun l a b => by (clear hM hw h01 t1 t2 t3 t4 t5 t6 g s u1 u2 u3 w0 r d m n P1 P2 P3 P4 P5 P6 P7 lx lq A1 A2 A3 A4 A5 A6 A7 A8 A9 A10 A11 A12 A13 A14 len a29 mr mq a63 K xA qA px pr qr q6 m6 x5 x142 x1 x71 c21 c23 lc i29 s53 code mo hb; omega), fun l _ _ => ⟨fun h => .inl h, fun h => by rcases h with h | h; exact h; (clear hM hw h01 t1 t2 t3 t4 t5 t6 g s u1 u2 u3 w0 r d m n P1 P2 P3 P4 P5 P6 P7 lx lq A1 A2 A3 A4 A5 A6 A7 A8 A9 A10 A11 A12 A13 A14 len a29 mr mq a63 K xA qA px pr qr q6 m6 x5 x142 x1 x71 c21 c23 lc i29 s53 code mo hb; omega)⟩⟩
  · intro hb h0
    obtain ⟨z0, hop⟩ := A14 hb h0
    have p4 := P4 hb
    rw [len] at p4
    obtain ⟨s1, s2, _⟩ := p4.2
    have e53 : MX 5 3 = Mx 5 3 + 2 := by (clear hM hw h01 t1 t2 t3 t4 t5 t6 g l s u1 u2 u3 w0 r d m n P1 P2 P3 P4 P5 P6 P7 lx lq A1 A2 A3 A4 A5 A6 A7 A8 A9 A10 A11 A12 A13 A14 len a29 mr mq a63 K xA qA px pr qr q6 m6 x142 x1 x71 c19 c21 c23 lc i29 s53 code mo hb h0 z0 hop s1 s2; omega)
    have r90 : Mq' 6 90 = Mq 6 90 := q6 90 (by decide)
    have c30 : Mx' 142 (Mx 5 3) = 30 := by rw [A9 _ s53 (by (clear hM hw h01 t1 t2 t3 t4 t5 t6 g l s u1 u2 u3 w0 r d m n P1 P2 P3 P4 P5 P6 P7 lx lq A1 A2 A3 A4 A5 A6 A7 A8 A9 A10 A11 A12 A13 A14 len a29 mr mq a63 K xA qA px pr qr q6 m6 x142 x1 x71 c19 c21 c23 lc i29 s53 code mo hb h0 z0 hop s1 s2 e53 r90; omega)), x142]; simpa using s2
    have c71 : Mx' 142 (Mx 5 3 + 1) = Mq' 204 (Mq 6 75) := by
      rw [A9 _ (by (clear hM hw h01 t1 t2 t3 t4 t5 t6 g l s u1 u2 u3 w0 r d m n P1 P2 P3 P4 P5 P6 P7 lx lq A1 A2 A3 A4 A5 A6 A7 A8 A9 A10 A11 A12 A13 A14 len a29 mr mq a63 K xA qA px pr qr q6 m6 x142 x1 x71 c19 c21 c23 lc i29 code mo hb h0 z0 hop s1 s2 e53 r90 c30; omega)) (by (clear hM hw h01 t1 t2 t3 t4 t5 t6 g l s u1 u2 u3 w0 r d m n P1 P2 P3 P4 P5 P6 P7 lx lq A1 A2 A3 A4 A5 A6 A7 A8 A9 A10 A11 A12 A13 A14 len a29 mr mq a63 K xA qA px pr qr q6 m6 x142 x1 x71 c19 c21 c23 lc i29 s53 code mo hb h0 z0 hop s1 s2 e53 r90 c30; omega)), x142, A13.1, x71]; exact s1
    rw [A5, r90, c19]
    refine ⟨z0, SEG_1 (w := w) A13.2.1 (.inr ⟨hw.1, hw.2, rfl⟩) c30 c71 (by (clear hM hw h01 t1 t2 t3 t4 t5 t6 g l s u1 u2 u3 w0 r d m n P1 P2 P3 P4 P5 P6 P7 lx lq A1 A2 A3 A4 A5 A6 A7 A9 A10 A11 A12 A13 A14 len a29 mr mq a63 K xA qA px pr qr q6 m6 x142 x1 x71 c19 c21 c23 lc i29 s53 code mo hb h0 z0 hop s1 s2 e53 r90 c30 c71; omega)) (by rw [e53] at hop; exact hop), fun q a b => ?_, fun q a b => ?_⟩
    · rw [c21]
      constructor
      · exact fun h => .inl h
      · rintro (h | ⟨k, hk, h1, h2⟩)
        · exact h
        · have ek : k = Mq 6 75 := by (clear hM hw h01 t1 t2 t3 t4 t5 t6 g l s u1 u2 u3 w0 r d m n P1 P2 P3 P4 P5 P6 P7 lx lq A1 A2 A3 A4 A6 A7 A8 A9 A10 A11 A12 A13 A14 len a29 mr mq a63 K xA qA px pr qr q6 m6 x5 x142 x1 x71 c19 c21 c23 lc i29 s53 code mo hb h0 z0 hop p4 s1 s2 e53 r90 c30 c71 a b h1 h2; omega)
          rw [ek, A13.2.1] at h1; (clear hM h01 t1 t2 t3 t4 t5 t6 g l s u1 u2 u3 w0 r d m n P1 P2 P3 P4 P5 P6 P7 lx lq A1 A2 A3 A4 A5 A6 A7 A8 A9 A10 A11 A12 A14 len a29 mr mq a63 K xA qA px pr qr q6 m6 x5 x142 x1 x71 c19 c21 c23 lc i29 s53 code mo hb h0 z0 hop p4 s1 s2 e53 r90 c30 c71 a b hk h2 ek; omega)
    · rw [c23]
      constructor
      · exact fun h => .inl h
      · rintro (h | ⟨k, hk, h1, h2⟩)
        · exact h
        · have ek : k = Mq 6 75 := by omega
          rw [ek, A13.2.1] at h1; (clear hM h01 t1 t2 t3 t4 t5 t6 g l s u1 u2 u3 w0 r d m n P1 P2 P3 P4 P5 P6 P7 lx lq A1 A2 A3 A4 A5 A6 A7 A8 A9 A10 A11 A12 A14 len a29 mr mq a63 K xA qA px pr qr q6 m6 x5 x142 x1 x71 c19 c21 c23 lc i29 s53 code mo hb h0 z0 hop p4 s1 s2 e53 r90 c30 c71 a b hk h2 ek; omega)
/-- a label -/
theorem LB_P [Inhabited gh_] (hp : PS b F Mx Mq a o me) (hj : b = 1 → Mx 1 19 < Mx 128 (Mx 1 18)) (hL : LBR b F F' Mx Mq Mx' Mq' a o me) : PRC b F F' Mx Mq Mx' Mq' a (a + 2) o o me ∧ (Mx' 5 3 = Mx 5 3 ∧ Mq' 6 75 = Mq 6 75 ∧ Mq' 6 90 = Mq 6 90 ∧ Mx' 1 21 = Mx 1 21 ∧ Mx' 1 23 = Mx 1 23 ∧ lc_ b Mx' = lc_ b Mx + 1) ∧ (b = 0 → Mx' 62 (10 * Mx 1 18 + lc_ b Mx) = a) ∧ (b = 1 → Mq' 6 13 = 0 → Mq 6 13 = 0) ∧ (b = 1 → Mx' 129 (10 * Mx 1 18 + Mx 1 19) = Mx 5 3 ∧ Mq' 188 (10 * Mx 1 18 + Mx 1 19) = Mq 6 75) := by
  have h01 := bl01 (PS_E hp)
  obtain ⟨⟨t1, t2, t3, t4, t5, t6⟩, g, l, s, ⟨u1, u2, u3⟩, w0, r, d, m, n⟩ := hp
  obtain ⟨L1, L2, L3, ⟨L4, L5⟩, L6, ⟨L7, L8⟩, L9, L10⟩ := hL
  have xA : XA Mx Mx' := ⟨Fr_sub L4 (by decide), fun i hi => L5 i (nm_i hi (by decide)) (nm_i hi (by decide)) (nm_i hi (by decide)) (nm_i hi (by decide)) (nm_i hi (by decide)), fun i _ => by rw [L4 5 (by decide)]⟩
  have qA : QA Mq Mq' := ⟨Fr_sub L7 (by decide), fun i hi => L8 i (nm_i hi (by decide)) (nm_i hi (by decide)) (nm_i hi (by decide))⟩
  have x53 : Mx' 5 3 = Mx 5 3 := by rw [L4 5 (by decide)]
  have i18 : Mx' 1 18 = Mx 1 18 := xA.2.1 18 (by decide)
  have i29 : Mx' 1 29 = Mx 1 29 := xA.2.1 29 (by decide)
  have c0 := l.1.1
  have lc : lc_ b Mx' = lc_ b Mx + 1 ∧ 0 ≤ lc_ b Mx ∧ lc_ b Mx < 10 := by
    unfold lc_
    rcases h01 with hb | hb
    · rw [if_pos hb, if_pos hb, i18]
      have := (L9 hb).1.1
      have q := L3.1.1
      rw [i18, this] at q
      (clear hj t1 t2 t3 t4 t5 t6 g l s u1 u2 u3 w0 r d m n L1 L2 L3 L4 L5 L6 L7 L8 L9 L10 xA qA x53 i18 i29 hb; lia)
    · rw [if_neg (by (clear hj t1 t2 t3 t4 t5 t6 g l s u1 u2 u3 w0 r d m n L1 L2 L3 L4 L5 L6 L7 L8 L9 L10 xA qA x53 i18 i29 c0; lia)), if_neg (by omega)]
      have := (L10 hb).2.2.1
      have := hj hb
      (clear hj t1 t2 t3 t4 t5 t6 g l s u1 u2 u3 w0 r d m L1 L2 L3 L4 L5 L6 L7 L8 L9 L10 xA qA x53 i18 i29 hb; lia)
  have qr : ∀ r : Nat, r ∉ [6, 175, 180, 187, 188, 189] → Mq' r = Mq r := fun r hr => L7 r hr
  refine ⟨⟨L1, L2, ⟨xA, qA⟩, ⟨⟨fun i _ _ => by rw [L4 142 (by decide)], fun r i hr _ _ => by rw [qr r (by unfold opL at hr; simp only [List.mem_cons, List.not_mem_nil, or_false] at hr ⊢; (clear hj h01 t1 t2 t3 t4 t5 t6 g l s u1 u2 u3 w0 d m n L1 L2 L3 L4 L5 L6 L7 L8 L9 L10 xA qA x53 i18 i29 c0 lc qr; omega))], fun i _ _ => by rw [qr 209 (by decide)], fun i _ _ => by rw [qr 227 (by decide), qr 228 (by decide)]; exact ⟨rfl, rfl⟩, fun r i hr _ _ => by rw [qr r (by unfold rgR at hr; simp only [List.mem_cons, List.not_mem_nil, or_false] at hr ⊢; (clear hj h01 t1 t2 t3 t4 t5 t6 g l s u1 u2 u3 w0 d m n L1 L2 L3 L4 L5 L6 L7 L8 L9 L10 xA qA x53 i18 i29 c0 lc qr; omega))], fun r i hr _ _ => by rw [qr r (by unfold dsR at hr; simp only [List.mem_cons, List.not_mem_nil, or_false] at hr ⊢; (clear hj h01 t1 t2 t3 t4 t5 t6 g l s u1 u2 u3 w0 d m n L1 L2 L3 L4 L5 L6 L7 L8 L9 L10 xA qA x53 i18 i29 c0 lc qr; omega))], L8 102 (by decide) (by decide) (by decide)⟩, fun i hi => ?_, fun i _ => ?_, fun i hi => ?_, fun i hi => ?_⟩, ⟨by omega, by rw [L8 75 (by decide) (by decide) (by decide)]; omega, by rw [L8 104 (by decide) (by decide) (by decide)]; (clear hj h01 t1 t2 t3 t4 t5 t6 g l s u1 u2 u3 w0 r d m n L1 L2 L3 L4 L5 L6 L7 L8 L9 L10 xA qA x53 i18 i29 c0 lc qr; lia), ⟨by (clear hj h01 t1 t2 t3 t4 t5 t6 g l s u1 u2 u3 w0 r d m n L1 L2 L3 L4 L5 L6 L7 L8 L9 L10 xA qA i18 i29 c0 lc qr; omega), by (clear hj h01 t1 t2 t3 t4 t5 t6 g l s u1 u2 u3 w0 r d m n L1 L2 L3 L4 L5 L6 L7 L8 L9 L10 xA qA i18 i29 c0 lc qr; lia), fun _ => x53⟩, by rw [L8 90 (by decide) (by decide) (by decide)]; (clear hj h01 t1 t2 t3 t4 t5 t6 g l s u1 u2 u3 w0 r d m n L1 L2 L3 L4 L5 L6 L7 L8 L9 L10 xA qA x53 i18 i29 c0 lc qr; lia), by (clear hj h01 t1 t2 t3 t4 t5 t6 g l s u1 u2 u3 w0 r d m n L1 L2 L3 L4 L5 L7 L8 L9 L10 xA qA x53 i18 i29 c0 lc qr; lia)⟩, L3, ⟨fun hb => ?_, by rw [L5 21 (by decide) (by decide) (by decide) (by decide) (by decide)]; exact m.2.1, by rw [L5 23 (by decide) (by decide) (by decide) (by decide) (by decide)]; exact m.2.2⟩, by (clear hj h01 t1 t2 t3 t4 t5 t6 g l s u1 u2 u3 w0 r d m n L1 L2 L3 L4 L5 L6 L7 L8 L9 L10 xA qA x53 i18 i29 c0 qr; omega), fun hb => (L9 hb).2.2.2.2.1, fun hb => ?_⟩, ⟨x53, L8 75 (by decide) (by decide) (by decide), L8 90 (by decide) (by decide) (by decide), L5 21 (by decide) (by decide) (by decide) (by decide) (by decide), L5 23 (by decide) (by decide) (by decide) (by decide) (by decide), lc.1⟩, fun hb => ?_, fun hb h0 => (L10 hb).2.2.2.2.2.2.2.2.2.2 h0, fun hb => ⟨(L10 hb).2.2.2.1.1, (L10 hb).2.2.2.2.2.2.2.2.1.1⟩⟩
  · rw [L4 63 (by decide), L4 65 (by decide)]
    refine ⟨rfl, ?_, rfl⟩
    rcases h01 with hb | hb
    · rw [(L9 hb).2.2.1]
    · exact (L10 hb).2.2.2.2.1.2 i hi
  · rw [qr 213 (by decide), qr 214 (by decide)]; exact ⟨rfl, rfl⟩
  · rcases h01 with hb | hb
    · exact ⟨(L9 hb).1.2 i hi, (L9 hb).2.2.2.2.2.2.2.1 i hi⟩
    · rw [(L10 hb).2.1, (L10 hb).2.2.2.2.2.1]; exact ⟨rfl, rfl⟩
  · rcases h01 with hb | hb
    · have e : lc_ b Mx = Mx 128 (Mx 1 18) := by unfold lc_; rw [if_pos hb]
      have hi' : i ≠ 10 * Mx 1 18 + Mx 128 (Mx 1 18) := by (clear hj t1 t2 t3 t4 t5 t6 g l s u1 u2 u3 w0 r d m n L1 L2 L3 L4 L5 L6 L7 L8 L9 L10 xA qA x53 i18 i29 qr hb; omega)
      have q := L9 hb
      rw [q.2.2.2.1, q.2.2.2.2.2.1, q.2.2.2.2.2.2.1]
      exact ⟨⟨q.2.1.2 i hi', rfl⟩, (q.2.2.2.2.2.2.2.2 i hi').1, (q.2.2.2.2.2.2.2.2 i hi').2, rfl, rfl⟩
    · have e : lc_ b Mx = Mx 1 19 := by unfold lc_; rw [if_neg (by omega)]
      have hi' : i ≠ 10 * Mx 1 18 + Mx 1 19 := by (clear hj t1 t2 t3 t4 t5 t6 g l s u1 u2 u3 w0 r d m n L1 L2 L3 L4 L5 L6 L7 L8 L9 L10 xA qA x53 i18 i29 c0 qr hb; omega)
      have q := L10 hb
      rw [q.1, q.2.2.2.2.2.2.1, q.2.2.2.2.2.2.2.1]
      exact ⟨⟨rfl, q.2.2.2.1.2 i hi'⟩, rfl, rfl, (q.2.2.2.2.2.2.2.2.2.1 i hi').1, (q.2.2.2.2.2.2.2.2.2.1 i hi').2⟩
  · have q := L10 hb
    have mm := m.1 hb
    have e : lc_ b Mx = Mx 1 19 := by unfold lc_; rw [if_neg (by (clear hj h01 t1 t2 t3 t4 t5 t6 g l s u1 u2 u3 w0 r d m n L1 L2 L3 L4 L5 L6 L7 L8 L9 L10 xA qA x53 i18 i29 c0 lc qr q mm; lia))]
    have ob := or_bt (m := 10) (x := Mx 64 (Mx 1 29 - 1)) (k := Mx 1 19) (by decide) mm.2.2.1 mm.2.2.2 (by (clear hj h01 t1 t2 t3 t4 t5 t6 g l s u1 u2 u3 w0 r d m n L1 L2 L3 L4 L5 L6 L7 L8 L9 L10 xA qA x53 i18 i29 c0 qr hb mm; omega)) (by have := lc.2; (clear hj h01 t1 t2 t3 t4 t5 t6 g l s u1 u2 u3 w0 r d m n L1 L2 L3 L4 L5 L6 L7 L8 L9 L10 xA qA x53 i18 i29 c0 qr hb mm this; omega))
    rw [i29, i18, L4 123 (by decide), L4 63 (by decide), L4 65 (by decide), qr 213 (by decide), qr 214 (by decide), q.2.2.2.2.1.1]
    exact ⟨mm.1, mm.2.1, ob.1⟩
  · have q := L10 hb
    have mm := m.1 hb
    have e : lc_ b Mx = Mx 1 19 := by unfold lc_; rw [if_neg (by omega)]
    have ob := or_bt (m := 10) (x := Mx 64 (Mx 1 29 - 1)) (k := Mx 1 19) (by decide) mm.2.2.1 mm.2.2.2 (by omega) (by have := lc.2; omega)
    refine ⟨q.1, q.2.1, q.2.2.2.2.2.1, q.2.2.2.2.2.2.1, q.2.2.2.2.2.2.2.1, fun l a b => ?_, fun l a b => ?_⟩
    · rw [q.2.2.1] at b
      rw [show l = Mx 1 19 by (clear hj h01 t1 t2 t3 t4 t5 t6 g s u1 u2 u3 w0 r d m n L1 L2 L3 L4 L5 L6 L7 L8 L9 L10 xA qA x53 i18 i29 c0 lc qr hb mm e ob; omega)]; exact q.2.2.2.2.2.2.2.2.1.2
    · rw [q.2.2.2.2.1.1, ob.2 l a, q.2.2.1]
      constructor
      · rintro (h | h)
        · exact .inl h
        · exact .inr (by (clear hj h01 t1 t2 t3 t4 t5 t6 g s u1 u2 u3 w0 r d m n L1 L2 L3 L4 L5 L6 L7 L8 L9 L10 xA qA x53 i18 i29 c0 lc qr hb mm e ob a b; omega))
      · rintro (h | h)
        · exact .inl h
        · exact .inr (by (clear hj h01 t1 t2 t3 t4 t5 t6 g s u1 u2 u3 w0 r d m n L1 L2 L3 L4 L5 L6 L7 L8 L9 L10 xA qA x53 i18 i29 c0 lc qr hb mm e ob a b; omega))
  · have e : lc_ b Mx = Mx 128 (Mx 1 18) := by unfold lc_; rw [if_pos hb]
    rw [e]; exact (L9 hb).2.1.1
end PA
end T133_pa
section T134_ew
/-! an e whose sort is told: X.e against Q.wanted(0) -/
section EW
variable {dq n : Nat} {b F : Int} {Mx Mq M : mm_} {a o f cc w : Int} {cd : List Int} {fm : List (Int × Int)} {K : Int → mm_ → Prop} {Kv : mm_ → Prop} {Qt : qt_}
theorem x_146v [Inhabited gh_] (hn : n ≤ 12) (ho : o = 12 - (n : Int)) (h : EQ9 b F Mx Mq a o f fm cc cd) (hS : b = 1 → ES (Mx 70) 0 o a ≠ none)
    (hK : ∀ Mx' Mq' a' y l s t bd, WP n b F Mx Mq Mx' Mq' a a' o f fm cc cd y l (t - 1) → ES (Mx 70) 0 o a = some a' → (Mq' 6 107 = t ∧ Mq' 6 108 = Mx 71 a ∧ Mq' 6 109 = bd) → (bd = 0 ∨ bd = 1) → (b = 1 → (bd = 0 → s = t - 1 ∧ 1 ≤ t ∧ t ≤ 3) ∧ (bd = 1 → s = -1 ∧ Mq' 6 13 ≠ 0)) → (∀ (Kq : Int → mm_ → Prop) (Qtq : qt_), Kq (Mq 6 104) Mq' → Tr_ wd0 pg0 (dq + 12) 270 [.inr (.inr 6), .inl 0] Mq (ri_ Kq) Qtq) → K s Mx')
    (hQ : b = 0 → ∀ Mx', XF Mx Mx' → (∀ (Kq : Int → mm_ → Prop) (Qtq : qt_), (∀ M', sp_ M' → in9_ M' → M' 6 13 = Mx' 1 4 → P14 Mx' M' → QF Mq M' → Kq (-1) M') → Tr_ wd0 pg0 (dq + 12) 270 [.inr (.inr 6), .inl 0] Mq (ri_ Kq) Qtq) → Qt 8 Mx') :
    Tr_ wd0 pg0 (9 * n + 13) 146 [.inr (.inr 1)] Mx (ri_ K) Qt := by
  have h9 := h
  obtain ⟨hT, hVT, hER, hXE, hf, hsf, hf0, hf1⟩ := h9
  have ha := ER_a hER
  have hgo := ER_goq hER
  refine e_top (dq := dq) hn ho h hS ?_ ?_
  · intro s Mx' Ms a' c' y t bd l hP hs hS4 hq
    have hP9 := hP
    obtain ⟨u1, u2, u3, u4, u5, u6, u7, ⟨u8, u9, u10, u11⟩, ⟨u12, u13⟩, u14, u15⟩ := hP9
    have ha' := ER_a u4
    have hQM : QF Mq Ms := QF_tr e0_QF u3
    have h104 : Ms 6 104 = f + (l.length + fm.length : Int) := by rw [u5.2.2.2.2.2.2.1]; simp only [List.length_append]; push_cast; rfl
    have hsf' : stF (pu_ (eF_ Ms t (Mx 71 a) bd) 0 0) f ((0, 0) :: (l ++ fm)) := by
      have e1 : QE (eF_ Ms t (Mx 71 a) bd) [] [(t, Mx 71 a, bd)] [c'] f (l ++ fm) := QE_sc (QE_sc (QE_sc u5 (by decide) (by decide) (by decide) (by decide)) (by decide) (by decide) (by decide) (by decide)) (by decide) (by decide) (by decide) (by decide)
      exact (pu_QE (x := 0) (y := 0) e1).2.2.2.2.2.2.2
    have p104 : pu_ (eF_ Ms t (Mx 71 a) bd) 0 0 6 104 = f + (l.length + fm.length + 1 : Int) := by unfold pu_; rw [up_at, eF_6 (by decide) (by decide) (by decide), h104]; (clear hn ho h hS hK hQ hT hVT hER hXE hf hsf hf0 hf1 ha hgo hP hs hS4 hq u1 u2 u3 u4 u5 u6 u7 u8 u9 u10 u11 u12 u13 u14 u15 ha' hQM h104 hsf'; lia)
    have pER : ER b F Mx' (pu_ (eF_ Ms t (Mx 71 a) bd) 0 0) a' o := by
      refine ER_Q u4 ?_ ?_ ?_ ?_ ?_ <;> rw [pu_6 (by decide), eF_6 (by decide) (by decide) (by decide)]
    have pQG : QG Mq (pu_ (eF_ Ms t (Mx 71 a) bd) 0 0) := QG_tr (QG_QF hQM) (QG_tr eF_QG (QG_QF pu_QF))
    have pfq : fqq_ (pu_ (eF_ Ms t (Mx 71 a) bd) 0 0) = fqq_ Ms := by unfold fqq_; rw [pu_6 (by decide), pu_6 (by decide), eF_6 (by decide) (by decide) (by decide), eF_6 (by decide) (by decide) (by decide)]
    have hfe0 : fqq_ (e0_ Mq) = fqq_ Mq := by unfold fqq_; rw [e0_6 (by decide) (by decide) (by decide), e0_6 (by decide) (by decide) (by decide)]
    have hqw : ∀ (Kq : Int → mm_ → Prop) (Qtq : qt_), Kq (Mq 6 104) (wQ_ Ms t (Mx 71 a) bd (-1)) → Tr_ wd0 pg0 (dq + 12) 270 [.inr (.inr 6), .inl (-1 + 1)] Mq (ri_ Kq) Qtq := fun Kq Qtq hk => q_270 hgo (ER_goq u4) (by rw [h104]; (clear hn ho h hS hK hQ hT hVT hER hXE hf hsf ha hgo hP hs hS4 hq u1 u2 u3 u4 u5 u6 u8 u9 u10 u11 u12 u13 u14 u15 hQM hsf' pER pQG pfq hfe0 hk; lia)) u6 (by decide) hq hk
    have e1 : wQ_ Ms t (Mx 71 a) bd (-1) = pu_ (eF_ Ms t (Mx 71 a) bd) 0 0 := by unfold wQ_; rw [if_pos (.inl rfl)]
    rw [e1] at hqw
    have e107 : pu_ (eF_ Ms t (Mx 71 a) bd) 0 0 6 107 = t := by rw [pu_6 (by decide)]; unfold eF_; rw [up_off (by decide), up_off (by decide), up_at]
    have e108 : pu_ (eF_ Ms t (Mx 71 a) bd) 0 0 6 108 = Mx 71 a := by rw [pu_6 (by decide)]; unfold eF_; rw [up_off (by decide), up_at]
    have e109 : pu_ (eF_ Ms t (Mx 71 a) bd) 0 0 6 109 = bd := by rw [pu_6 (by decide)]; unfold eF_; rw [up_at]
    have bad : b = 1 → bd = 1 → kk_ (pu_ (eF_ Ms t (Mx 71 a) bd) 0 0 6 13) (pu_ (eF_ Ms t (Mx 71 a) bd) 0 0 6 14) < 8 * Mx 71 a' := fun hb h => by
      have e := ((u14 hb).2 h).2.2
      rw [pu_6 (by decide), pu_6 (by decide), eF_6 (by decide) (by decide) (by decide), eF_6 (by decide) (by decide) (by decide)]
      exact e
    have ga' : gd_ Mx a' := gd_c (XF_70 u2 (r := 70) (by decide) (by decide) (by decide)).symm u4.1
    refine hK Mx' _ a' y l s t bd ⟨u1, u2, pQG, pER, p104, hsf', u7, u8, u9, u11, ⟨by (clear hn ho h hS hK hQ hT hVT hER hXE hf hsf hf0 hf1 ha hgo hP hs hS4 hq u1 u2 u3 u4 u5 u6 u7 u8 u9 u10 u11 u13 u14 u15 ha' hQM h104 hsf' p104 pER pQG pfq hfe0 hqw e1 e107 e108 e109 bad ga'; lia), u13⟩, fun hb => ?_⟩ hS4 ⟨e107, e108, e109⟩ u6 (fun hb => ⟨fun h => ?_, fun h => ⟨hs hb h, fun h13 => ?_⟩⟩) hqw
    · rcases u6 with h | h
      · have e := (u14 hb).1 h
        left
        exact ⟨t, fun _ => by omega, ⟨e.2.1, e.2.2.1⟩, by rw [pfq, e.2.2.2.2, hfe0], e.2.2.2.1, by rw [u10 hb h, er_c e0_QF], fun st D hD => ty_c e0_QF l st _ (u15 hb h st D hD)⟩
      · exact .inr (bad hb h)
    · have e := (u14 hb).1 h
      exact ⟨e.1, e.2.1, e.2.2.1⟩
    · have := bad hb h
      unfold kk_ at this
      rw [if_pos h13] at this
      have := tk_p hT ga'
      (clear hn ho hS hK hQ hT hVT hER hXE hf hsf hf0 hf1 ha hgo hP hs hS4 hq u1 u2 u3 u4 u5 u6 u7 u8 u9 u10 u11 u12 u13 u14 u15 ha' hQM h104 hsf' p104 pER pQG pfq hfe0 hqw e1 e107 e108 e109 bad ga' hb h h13; omega)
  · intro hb Mx' hx he
    refine hQ hb Mx' hx fun Kq Qtq hk => ?_
    refine t_270 fun V hV hW => b_270_0 (Tr_mono _) hV hW 0 Mq ?_
    refine q_227g hgo ?_
    rw [if_pos rfl]
    refine he _ _ fun M' h1 h2 h3' h4 h5 => ?_
    refine q_227s h1 ?_
    rw [if_neg (by decide)]
    exact ri_i (hk M' h1 h2 h3' h4 h5)
theorem x_146w [Inhabited gh_] (hn : n ≤ 12) (ho : o = 12 - (n : Int)) (hT : Tks Mx Mq) (hV : VT Mx Mq) (hE : ER b F Mx Mq a o) (hf : 0 ≤ Mq 6 104 ∧ Mq 6 104 ≤ 1500 + a) (hS : b = 1 → ES (Mx 70) 0 o a ≠ none)
    (hK : ∀ Mx' Mq' a' s t bd, WR b F Mx Mq Mx' Mq' a a' o (t - 1) → ES (Mx 70) 0 o a = some a' → (Mq' 6 107 = t ∧ Mq' 6 108 = Mx 71 a ∧ Mq' 6 109 = bd) → (bd = 0 ∨ bd = 1) → (b = 1 → (bd = 0 → s = t - 1 ∧ 1 ≤ t ∧ t ≤ 3) ∧ (bd = 1 → s = -1 ∧ Mq' 6 13 ≠ 0)) → (∀ (Kq : Int → mm_ → Prop) (Qtq : qt_), Kq (Mq 6 104) Mq' → Tr_ wd0 pg0 (dq + 12) 270 [.inr (.inr 6), .inl 0] Mq (ri_ Kq) Qtq) → K s Mx')
    (hQ : b = 0 → ∀ Mx', XF Mx Mx' → (∀ (Kq : Int → mm_ → Prop) (Qtq : qt_), (∀ M', sp_ M' → in9_ M' → M' 6 13 = Mx' 1 4 → P14 Mx' M' → QF Mq M' → Kq (-1) M') → Tr_ wd0 pg0 (dq + 12) 270 [.inr (.inr 6), .inl 0] Mq (ri_ Kq) Qtq) → Qt 8 Mx') :
    Tr_ wd0 pg0 (9 * n + 13) 146 [.inr (.inr 1)] Mx (ri_ K) Qt := by
  obtain ⟨fm, f1, f2⟩ := ex_F Mq 0 (Mq 6 104).toNat
  obtain ⟨cd, c1, c2⟩ := ex_X Mx 0 (Mx 5 3).toNat
  have h53 : 0 ≤ Mx 5 3 := (ER_st hE).1
  have hX : XE Mx 0 cd := ⟨by (clear hn ho hT hV hE hf hS hK hQ f1 f2 c2; omega), c2⟩
  have h104 : Mq 6 104 = 0 + (fm.length : Int) := by (clear hn ho hT hV hE hS hK hQ f2 c1 c2 h53 hX; omega)
  refine x_146v (dq := dq) hn ho (f := 0) (fm := fm) (cc := 0) (cd := cd) ⟨hT, hV, hE, hX, h104, f2, by omega, by (clear hn ho hT hV hE hS hK hQ f2 c1 c2 h53 hX; omega)⟩ hS ?_ hQ
  intro Mx' Mq' a' y l s t bd hP hs e1 e2 e3 hq
  exact hK Mx' Mq' a' s t bd (WP_WR hn hE.2.2.2.2.2.2.2.2.1 hX h104 f2 hT hP) hs e1 e2 e3 hq
end EW
end T134_ew
section T135_rg
/-! bounds and ranges -/
/-- only what Q stands at and its fault -/
def QN (M M' : mm_) : Prop := (∀ r : Nat, r ≠ 6 → M' r = M r) ∧ ∀ i : Int, i ≠ 12 → i ≠ 13 → i ≠ 14 → M' 6 i = M 6 i
theorem QN_rf [Inhabited gh_] {M : mm_} : QN M M := ⟨fun _ _ => rfl, fun _ _ _ _ => rfl⟩
theorem QN_tr [Inhabited gh_] {M M1 M2 : mm_} (h1 : QN M M1) (h2 : QN M1 M2) : QN M M2 := ⟨fun r h => (h2.1 r h).trans (h1.1 r h), fun i a b c => (h2.2 i a b c).trans (h1.2 i a b c)⟩
theorem QN_nx [Inhabited gh_] {M : mm_} : QN M (nx_ M) := ⟨fun r h => nx_ne h, fun i h _ _ => nx_6 h⟩
theorem QN_Qn [Inhabited gh_] {b k p : Int} {M : mm_} : QN M (Qn_ M b k p) := ⟨fun r h => Qn_r h, fun i _ h1 h2 => Qn_6 h1 h2⟩
theorem QN_QF [Inhabited gh_] {M M' : mm_} (h : QN M M') : QF M M' := ⟨fun r hr => h.1 r (fun e => hr (by rw [e]; decide)), fun i h1 h2 h3 _ _ _ _ _ => h.2 i h1 h2 h3⟩
section RG
variable {d dq n : Nat} {b F : Int} {Mx Mq Mx1 Mq1 M : mm_} {a a1 o x : Int} {K : Int → mm_ → Prop} {Kv G : mm_ → Prop} {Qt : qt_} {V : vv_}
theorem y_125 [Inhabited gh_] (hT : Tks Mx Mq) (hE : ER b F Mx Mq a o) (hS : b = 1 → tS (Mx 70) 101 a ≠ none) (hg : Mx 70 a = 101 → a < 1200 → ER b F (nX_ Mx) (nx_ Mq) (a + 1) o → K (Mx 73 a) (nX_ Mx)) (hr : b = 0 → Mx 70 a = 101 → a = 1200 → Qt 8 (flX_ Mx 2 a)) (hw : b = 0 → Mx 70 a ≠ 101 → Qt 8 (flX_ Mx 1 a)) : Tr_ wd0 pg0 (d + 4) 125 [.inr (.inr 1)] Mx (ri_ K) Qt := by
  have e3 := hE.2.1
  have hb := bl01 hE
  refine x_125 (ER_iX hE) (fun h1 h2 => ?_) (fun h1 => ?_) (fun h1 h2 => ?_)
  · rw [e3] at h1 h2 ⊢
    exact hg h1 h2 (ER_go hE h2 (by (clear hT hE hS hg hr hw e3 hb h2; lia))).1
  · rw [e3] at h1 ⊢
    rcases hb with hb | hb
    · exact hw hb h1
    · exact absurd (tS_n (hS hb)).1 h1
  · rw [e3] at h1 h2 ⊢
    rcases hb with hb | hb
    · exact hr hb h1 h2
    · have := (tS_n (hS hb)).2; (clear hT hE hS hg hr hw e3 h1 hb; omega)
theorem j_249t [Inhabited gh_] (hT : Tks Mx Mq) (hE : ER b F Mx Mq a o) (hk : Mx 70 a = 101) (h12 : a < 1200) (h : K (Mx 73 a) (nx_ Mq)) : Tr_ wd0 pg0 (d + 3) 249 [.inr (.inr 6)] Mq (ri_ K) Qt := by
  obtain ⟨e1, e2, e3, e4, e5, e6⟩ := ER_k hT hE
  have q := (hT a hE.1).2.2.1 hk
  refine q_249g (ER_goq hE) e4 (e5 h12) ((kq_u e1).mpr hk) ?_
  rw [hE.2.2.1, q.1, w32_id (by omega) (by omega)]; exact h
theorem j_249r [Inhabited gh_] (hT : Tks Mx Mq) (hE : ER b F Mx Mq a o) (hb : b = 0) (hk : Mx 70 a = 101) (h12 : a = 1200) (h : ∀ v, K v (bf_ Mq 2 (Mx 71 a))) : Tr_ wd0 pg0 (d + 3) 249 [.inr (.inr 6)] Mq (ri_ K) Qt := by
  obtain ⟨e1, e2, e3, e4, e5, e6⟩ := ER_k hT hE
  exact q_249r (ER_ok hE hb) (e6 h12) ((kq_u e1).mpr hk) (by rw [e2]; exact h _)
theorem j_249w [Inhabited gh_] (hT : Tks Mx Mq) (hE : ER b F Mx Mq a o) (hb : b = 0) (hk : Mx 70 a ≠ 101) (h : ∀ v, K v (bf_ Mq 1 (Mx 71 a))) : Tr_ wd0 pg0 (d + 3) 249 [.inr (.inr 6)] Mq (ri_ K) Qt := by
  obtain ⟨e1, e2, e3, e4, e5, e6⟩ := ER_k hT hE
  exact q_249w (ER_ok hE hb) e3 (fun c => hk ((kq_u e1).mp c)) (by rw [e2]; exact h _)
/-- X and Q have gone on, without a note -/
def GN (Mx Mq Mx' Mq' : mm_) : Prop := ((∀ r : Nat, r ≠ 1 → Mx' r = Mx r) ∧ ∀ i : Int, i ≠ 3 → Mx' 1 i = Mx 1 i) ∧ ((∀ r : Nat, r ≠ 6 → Mq' r = Mq r) ∧ ∀ i : Int, i ≠ 12 → Mq' 6 i = Mq 6 i)
theorem GN_1 [Inhabited gh_] : GN Mx Mq (nX_ Mx) (nx_ Mq) := ⟨⟨fun r h => nX_ne h, fun i h => nX_1 h⟩, ⟨fun r h => nx_ne h, fun i h => nx_6 h⟩⟩
theorem GN_tr [Inhabited gh_] {Mx2 Mq2 : mm_} (h1 : GN Mx Mq Mx1 Mq1) (h2 : GN Mx1 Mq1 Mx2 Mq2) : GN Mx Mq Mx2 Mq2 := ⟨⟨fun r h => (h2.1.1 r h).trans (h1.1.1 r h), fun i h => (h2.1.2 i h).trans (h1.1.2 i h)⟩, ⟨fun r h => (h2.2.1 r h).trans (h1.2.1 r h), fun i h => (h2.2.2 i h).trans (h1.2.2 i h)⟩⟩
theorem y_165 [Inhabited gh_] (hT : Tks Mx Mq) (hE : ER b F Mx Mq a o) (hS : b = 1 → boS (Mx 70) a ≠ none)
    (hK : ∀ Mx' Mq' a' v, GN Mx Mq Mx' Mq' → Tks Mx' Mq' → ER b F Mx' Mq' a' o → (a < a' ∧ a' ≤ a + 2) → boS (Mx 70) a = some a' → (-1000000000 < v ∧ v < 1000000000) → (∀ (K' : Int → mm_ → Prop) (Qtq : qt_), K' v Mq' → Tr_ wd0 pg0 (dq + 4) 294 [.inr (.inr 6)] Mq (ri_ K') Qtq) → K v Mx')
    (hQ : b = 0 → ∀ Mx', XF Mx Mx' → (∀ (K' : Int → mm_ → Prop) (Qtq : qt_), (∀ v M', SQ Mx' Mq M' → K' v M') → Tr_ wd0 pg0 (dq + 4) 294 [.inr (.inr 6)] Mq (ri_ K') Qtq) → Qt 8 Mx') :
    Tr_ wd0 pg0 (d + 5) 165 [.inr (.inr 1)] Mx (ri_ K) Qt := by
  refine t_165 fun V hV hW => b_165_0 (Tr_mono _) hV hW Mx ?_
  refine y_117 hE (by decide) (fun k1 => ?_) (fun k1 => ?_)
  · -- a minus
    rw [if_neg (by decide)]
    have k1' : Mx 70 a = 245 := k1
    have eS : boS (Mx 70) a = (gS a).bind (tS (Mx 70) 101) := by unfold boS; rw [if_pos k1']
    rw [eS] at hS
    refine y_105 hE (by omega) (fun hb => by intro e; have := hS hb; rw [e] at this; exact this rfl) (fun h12 hE1 => ?_) (fun hb h12 => ?_)
    rotate_left
    · have hsp := SQ_bf hE hb (k := 2) (by decide) (QA_rf (M := Mq))
      refine hQ hb _ fl_XF fun K' Qtq hk9 => t_294 fun V hV hW => b_294_0 (Tr_mono _) hV hW Mq (j_242r hT hE hb (by decide) k1 h12 (q_249s hsp.1 ?_))
      rw [if_neg (by decide)]
      exact ri_i (hk9 _ _ hsp)
    have hT1 : Tks (nX_ Mx) (nx_ Mq) := Tks_c nX_XF nx_QF hT
    have e70 : nX_ Mx 70 = Mx 70 := nX_ne (by decide)
    have e73 : nX_ Mx 73 = Mx 73 := nX_ne (by decide)
    rw [gS_e h12, Option.bind_some] at hS
    have pre : ∀ (K' : Int → mm_ → Prop) (Qtq : qt_), Tr_ wd0 pg0 (dq + 3) 249 [.inr (.inr 6)] (nx_ Mq) (ri_ fun v2 M2 => (if (1 : Int) = 0 then ri_ K' [.inl v2] M2 else ri_ K' [.inl (w32 (-v2))] M2)) Qtq → Tr_ wd0 pg0 (dq + 4) 294 [.inr (.inr 6)] Mq (ri_ K') Qtq := fun K' Qtq hq => t_294 fun V hV hW => b_294_0 (Tr_mono _) hV hW Mq (j_242t hT hE (by decide) k1 h12 hq)
    refine y_125 hT1 hE1 (fun hb => by rw [e70]; exact hS hb) (fun k2 h13 hE2 => ?_) (fun hb k2 h13 => ?_) (fun hb k2 => ?_)
    · rw [if_neg (by decide)]
      have q := (hT1 (a + 1) hE1.1).2.2.1 k2
      rw [w32_id (by omega) (by omega)]
      refine ri_i (hK _ (nx_ (nx_ Mq)) (a + 1 + 1) _ (GN_tr GN_1 GN_1) (Tks_c nX_XF nx_QF hT1) hE2 (by omega) ?_ (by omega) (fun K' Qtq hk9 => pre _ _ (j_249t hT1 hE1 k2 h13 ?_)))
      · rw [eS, gS_e h12, Option.bind_some, tS_e (by rw [← e70]; exact k2) h13]
      · rw [if_neg (by decide), w32_id (by omega) (by omega)]; exact ri_i hk9
    · have hsp := SQ_bf hE1 hb (k := 2) (by decide) (QF_QA (M := Mq) nx_QF)
      refine hQ hb _ (XF_tr nX_XF fl_XF) fun K' Qtq hk9 => pre _ _ (j_249r hT1 hE1 hb k2 h13 fun v => ?_)
      rw [if_neg (by decide)]; exact ri_i (hk9 _ _ hsp)
    · have hsp := SQ_bf hE1 hb (k := 1) (by decide) (QF_QA (M := Mq) nx_QF)
      refine hQ hb _ (XF_tr nX_XF fl_XF) fun K' Qtq hk9 => pre _ _ (j_249w hT1 hE1 hb k2 fun v => ?_)
      rw [if_neg (by decide)]; exact ri_i (hk9 _ _ hsp)
  · rw [if_pos rfl]
    have k1' : Mx 70 a ≠ 245 := k1
    have eS : boS (Mx 70) a = tS (Mx 70) 101 a := by unfold boS; rw [if_neg k1']
    rw [eS] at hS
    have pre : ∀ (K' : Int → mm_ → Prop) (Qtq : qt_), Tr_ wd0 pg0 (dq + 3) 249 [.inr (.inr 6)] Mq (ri_ fun v2 M2 => (if (0 : Int) = 0 then ri_ K' [.inl v2] M2 else ri_ K' [.inl (w32 (-v2))] M2)) Qtq → Tr_ wd0 pg0 (dq + 4) 294 [.inr (.inr 6)] Mq (ri_ K') Qtq := fun K' Qtq hq => t_294 fun V hV hW => b_294_0 (Tr_mono _) hV hW Mq (j_242f hT hE (by decide) k1 hq)
    refine y_125 hT hE hS (fun k2 h13 hE2 => ?_) (fun hb k2 h13 => ?_) (fun hb k2 => ?_)
    · rw [if_pos rfl]
      have q := (hT a hE.1).2.2.1 k2
      refine ri_i (hK _ (nx_ Mq) (a + 1) _ GN_1 (Tks_c nX_XF nx_QF hT) hE2 (by (clear hT hE hS hK hQ hV hW k1 k1' eS pre k2 h13 hE2 q; lia)) ?_ (by (clear hT hE hS hK hQ hV hW k1 k1' eS pre k2 h13 hE2; omega)) (fun K' Qtq hk9 => pre _ _ (j_249t hT hE k2 h13 ?_)))
      · rw [eS, tS_e k2 h13]
      · rw [if_pos rfl]; exact ri_i hk9
    · have hsp := SQ_bf hE hb (k := 2) (by decide) (QA_rf (M := Mq))
      refine hQ hb _ fl_XF fun K' Qtq hk9 => pre _ _ (j_249r hT hE hb k2 h13 fun v => ?_)
      rw [if_pos rfl]; exact ri_i (hk9 _ _ hsp)
    · have hsp := SQ_bf hE hb (k := 1) (by decide) (QA_rf (M := Mq))
      refine hQ hb _ fl_XF fun K' Qtq hk9 => pre _ _ (j_249w hT hE hb k2 fun v => ?_)
      rw [if_pos rfl]; exact ri_i (hk9 _ _ hsp)
/-- Q keeps a range -/
def rgM_ (M : mm_) (dd lo hi : Int) : mm_ :=
  if M 222 dd < 0 then up_ (up_ (up_ (up_ (up_ (up_ (up_ M 216 (M 6 90) lo) 217 (M 6 90) hi) 218 (M 6 90) (M 6 75)) 219 (M 6 90) (-1)) 206 (M 220 dd) (M 6 90)) 222 dd (M 6 90)) 6 90 (M 6 90 + 1)
  else up_ (up_ (up_ (up_ (up_ (up_ (up_ M 216 (M 6 90) lo) 217 (M 6 90) hi) 218 (M 6 90) (M 6 75)) 219 (M 6 90) (-1)) 219 (M 222 dd) (M 6 90)) 222 dd (M 6 90)) 6 90 (M 6 90 + 1)
theorem q_293e [Inhabited gh_] {x2 dd lo hi : Int} (hV : Cl_ wd0 (Tr_ wd0 pg0 (d + 1)) V (rv_ Kv) Qt m_293) (hW : Wk_ V) (hg : go_ M) (hd : 0 ≤ dd ∧ dd < 14) (h90 : 0 ≤ M 6 90 ∧ M 6 90 < 1300) (hl : M 222 dd < 1300) (hc : 0 ≤ M 220 dd ∧ M 220 dd < 1300) (h : Kv (rgM_ M dd lo hi)) : V 124 [rr 6, ii dd, ii x2, ii lo, ii hi, none] [] M := by
  refine b_293_124 (Tr_mono _) hV hW _ _ _ _ _ (q_227g hg ?_)
  rw [if_pos rfl]
  unfold rgM_ at h
  rw [w32_id (by omega) (by omega)]
  refine ⟨h90, h90, h90, h90, hd, ?_⟩
  by_cases c : M 222 dd < 0
  · rw [if_pos c] at h ⊢
    exact ⟨hd, hc, hd, rv_i h⟩
  · rw [if_neg c] at h ⊢
    exact ⟨hd, by omega, hd, rv_i h⟩
theorem q_293s [Inhabited gh_] {x2 dd lo hi : Int} (hV : Cl_ wd0 (Tr_ wd0 pg0 (d + 1)) V (rv_ Kv) Qt m_293) (hW : Wk_ V) (hs : sp_ M) (h : Kv M) : V 124 [rr 6, ii dd, ii x2, ii lo, ii hi, none] [] M := by
  refine b_293_124 (Tr_mono _) hV hW _ _ _ _ _ (q_227s hs ?_)
  rw [if_neg (by decide)]
  exact rv_i h
theorem nt_s [Inhabited gh_] {k p : Int} (hs : sp_ M) : nt_ M k p = M := by unfold nt_; rw [if_pos hs.2]
end RG
end T135_rg
section T136_rg
/-! a range of X and of Q -/
def RR [Inhabited gh_] (b F : Int) (Mx Mq Mx' Mq' : mm_) (a a' o dd lo hi : Int) : Prop := a < a' ∧ ER b F Mx' Mq' a' o ∧ XF Mx Mx' ∧ (∃ Nq, QN Mq Nq ∧ Mq' = rgM_ Nq dd lo hi) ∧ Mx' 5 3 = Mx 5 3 + (if b = 0 then 0 else 2) ∧ (∀ i, i < Mx 5 3 → Mx' 142 i = Mx 142 i) ∧ (b = 1 → Mx' 142 (Mx 5 3) = lo ∧ Mx' 142 (Mx 5 3 + 1) = hi) ∧ (Mx 1 7 ≤ Mx' 1 7 ∧ Mx' 1 7 ≤ Mx 1 7 + 2) ∧ (b = 1 → Mq' 6 13 = 0 → Mq 6 13 = 0)
section RG
variable {d dq n : Nat} {b F : Int} {Mx Mq Mx1 Mq1 M N : mm_} {a a1 o x dd lo hi : Int} {K : Int → mm_ → Prop} {Kv G : mm_ → Prop} {Qt : qt_} {V : vv_}
theorem rgM_6 [Inhabited gh_] {i : Int} (h : i ≠ 90) : rgM_ M dd lo hi 6 i = M 6 i := by
  unfold rgM_; split
  · rw [up_off h, up_ne (by decide), up_ne (by decide), up_ne (by decide), up_ne (by decide), up_ne (by decide), up_ne (by decide)]
  · rw [up_off h, up_ne (by decide), up_ne (by decide), up_ne (by decide), up_ne (by decide), up_ne (by decide), up_ne (by decide)]
/-- two words put -/
theorem PX2 [Inhabited gh_] (h18 : M 1 8 = b) (h01 : b = 0 ∨ b = 1) (u w : Int) : XF M (pX_ (pX_ M u) w) ∧ pX_ (pX_ M u) w 1 = M 1 ∧ pX_ (pX_ M u) w 5 3 = M 5 3 + (if b = 0 then 0 else 2) ∧ (∀ i, i < M 5 3 → pX_ (pX_ M u) w 142 i = M 142 i) ∧ (b = 1 → pX_ (pX_ M u) w 142 (M 5 3) = u ∧ pX_ (pX_ M u) w 142 (M 5 3 + 1) = w) ∧ (b = 0 → pX_ (pX_ M u) w = M) := by
  have P := PXL_1 (v := w) h18 h01 (PXL_1 (v := u) h18 h01 (PXL_0 (b := b) (M := M)))
  obtain ⟨P1, P2, P3, P4, P5, P6, P7⟩ := P
  refine ⟨P1, P2, ?_, P5, fun hb => ?_, P3⟩
  · rcases h01 with hb | hb
    · rw [P3 hb, if_pos hb]; (clear h18 P1 P2 P3 P4 P5 P6 P7 hb; lia)
    · rw [(P4 hb).1, if_neg (by (clear h18 P1 P2 P3 P4 P5 P6 P7; lia))]; rfl
  · obtain ⟨s1, s2, _⟩ := (P4 hb).2
    exact ⟨by simpa using s2, s1⟩
theorem y_164t [Inhabited gh_] {x1 : Int} (hT : Tks Mx Mq) (hVT : VT Mx Mq) (hE : ER b F Mx Mq a o) (hk : Mx 70 a = 31 ∨ Mx 70 a = 32) (hS : b = 1 → a < 1200) (hd : 0 ≤ dd ∧ dd < 14) (h90 : 0 ≤ Mq 6 90 ∧ Mq 6 90 < 1300) (hl : Mq 222 dd < 1300) (hc : 0 ≤ Mq 220 dd ∧ Mq 220 dd < 1300) (hx1 : b = 1 → Mq 223 dd = x1 + 1) (hfl : Mx 1 7 + 2 + 8 * (1201 - a) ≤ 1000001000 - (gg_ : Int)) (hst : Mx 5 3 + 2 ≤ 9 * a + 1000)
    (hK : ∀ Mx' Mq' lo hi, RR b F Mx Mq Mx' Mq' a (a + 1) o dd lo hi → a < 1200 → (∀ (Kv : mm_ → Prop) (Qtq : qt_), Kv Mq' → Tr_ wd0 pg0 (dq + 5) 293 [.inr (.inr 6), .inl dd, .inl (Mx 71 a)] Mq (rv_ Kv) Qtq) → Kv Mx')
    (hQ : b = 0 → ∀ Mx', XF Mx Mx' → (∀ (Kv : mm_ → Prop) (Qtq : qt_), (∀ M', SQ Mx' Mq M' → Kv M') → Tr_ wd0 pg0 (dq + 5) 293 [.inr (.inr 6), .inl dd, .inl (Mx 71 a)] Mq (rv_ Kv) Qtq) → Qt 8 Mx') :
    Tr_ wd0 pg0 (d + 3) 164 [.inr (.inr 1), .inl x1] Mx (rv_ Kv) Qt := by
  have h01 := bl01 hE
  have e3 := hE.2.1
  have ha := ER_a hE
  have hpa := tk_p hT hE.1
  have h16 : Mq 6 16 = b := hE.2.2.2.2.2.2.2.1
  have h8 : Mx 1 8 = b := hE.2.2.2.2.2.2.1
  obtain ⟨e1, e2, e3q, e4, e5, e6⟩ := ER_k hT hE
  obtain ⟨v, hv⟩ : ∃ v : Int, v = if Mx 70 a = 31 then 1 else 0 := ⟨_, rfl⟩
  obtain ⟨kk, hkk⟩ : ∃ kk : Int, kk = if x1 = 0 then 5 else 0 := ⟨_, rfl⟩
  have hkc : kk = 0 ∨ (3 ≤ kk ∧ kk ≤ 6) := by rw [hkk]; split <;> (clear hT hVT hE hk hS hd h90 hl hc hx1 hfl hst hK hQ h01 e3 ha hpa h16 h8 e1 e2 e3q e4 e5 e6 hv hkk; lia)
  obtain ⟨E1, E2, E3⟩ := ER_m (k := kk) (tk := a) hE hkc hpa (by (clear hT hVT hE hk hS hd h90 hl hc hx1 hst hK hQ h01 ha hpa h16 h8 e1 e2 e3q e4 e5 e6 hv hkk hkc; lia))
  -- Q up to take
  have preA : ∀ (MQ : mm_), ((a < 1200 ∧ MQ = nx_ Mq) ∨ (b = 0 ∧ a = 1200 ∧ MQ = bf_ Mq 2 (Mx 71 a))) → ∀ (Kv : mm_ → Prop) (Qtq : qt_), (∀ V : vv_, Cl_ wd0 (Tr_ wd0 pg0 (dq + 4)) V (rv_ Kv) Qtq m_293 → Wk_ V → (if MQ 223 dd = 1 then Tr_ wd0 pg0 (dq + 4) 236 [.inr (.inr 6), .inl 5, .inl (Mx 71 a)] MQ (rv_ fun M2 => V 124 [rr 6, ii dd, ii (Mx 71 a), ii v, ii v, none] [] M2) Qtq else V 124 [rr 6, ii dd, ii (Mx 71 a), ii v, ii v, none] [] MQ)) → Tr_ wd0 pg0 (dq + 5) 293 [.inr (.inr 6), .inl dd, .inl (Mx 71 a)] Mq (rv_ Kv) Qtq := by
    intro MQ hMQ Kv Qtq hq
    refine t_293 fun V hV hW => b_293_0 (Tr_mono _) hV hW _ _ _ ?_
    have tk : V 33 [rr 6, ii dd, ii (Mx 71 a), ii v, none, none] [] Mq := by
      refine b_293_33 (Tr_mono _) hV hW _ _ _ _ ?_
      have := hq V hV hW
      rcases hMQ with ⟨h12, e⟩ | ⟨hb, h12, e⟩
      · rw [e] at this
        exact q_230g (ER_goq hE) e4 (e5 h12) ⟨hd, this⟩
      · rw [e] at this
        exact q_230r (ER_ok hE hb) (e6 h12) (by rw [e2]; exact ⟨hd, this⟩)
    rcases hk with k | k
    · refine j_229t hT hE (by decide) k ?_
      rw [if_neg (by decide)]
      refine j_229t hT hE (by decide) k ?_
      rw [if_neg (by decide)]
      rw [if_pos k] at hv; rw [hv] at tk; exact tk
    · refine j_229f hT hE (by decide) (by (clear hT hVT hE hS hd h90 hl hc hx1 hfl hst hK hQ h01 e3 ha hpa h16 h8 e1 e2 e3q e4 e5 e6 hv hkk hkc E1 E2 E3 hMQ hq hV hW tk; lia)) ?_
      rw [if_pos rfl]
      refine j_229t hT hE (by decide) k ?_
      rw [if_neg (by decide)]
      refine j_229f hT hE (by decide) (by omega) ?_
      rw [if_pos rfl]
      rw [if_neg (by omega)] at hv; rw [hv] at tk; exact tk
  refine t_164 fun V hV hW => b_164_0 (Tr_mono _) hV hW _ _ ?_
  -- X behind its note
  have X40 : V 40 [rr 1, ii x1, ii a, none, none, none] [] (Xn_ Mx b kk a) := by
    have P := PX2 (M := Xn_ Mx b kk a) E1.2.2.2.2.2.2.1 h01 v v
    obtain ⟨P1, P2, P3, P4, P5, P6⟩ := P
    have x70 : Xn_ Mx b kk a 70 = Mx 70 := Xn_r (by decide)
    have x71 : Xn_ Mx b kk a 71 = Mx 71 := Xn_r (by decide)
    have x53 : Xn_ Mx b kk a 5 = Mx 5 := Xn_r (by decide)
    have x142 : Xn_ Mx b kk a 142 = Mx 142 := Xn_r (by decide)
    have hv2 : Xn_ Mx b kk a 1 2 = 5 := by rw [Xn_1 (by decide) (by decide) (by decide)]; exact hVT.1
    rw [x53] at P3 P4 P5
    have l53 : pX_ (pX_ (Xn_ Mx b kk a) v) v 5 3 ≤ Mx 5 3 + 2 ∧ Mx 5 3 ≤ pX_ (pX_ (Xn_ Mx b kk a) v) v 5 3 := by rw [P3]; split <;> (clear hT hVT hE hk hS hd h90 hl hc hx1 hfl hst hK hQ h01 e3 ha hpa h16 h8 e1 e2 e3q e4 e5 e6 hv hkk hkc E1 E2 E3 preA hV hW P1 P2 P3 P4 P5 P6 x70 x71 x53 x142 hv2; lia)
    have Ea : ER b F (pX_ (Xn_ Mx b kk a) v) (Qn_ Mq b kk (Mx 71 a)) a o := ER_pX E1 (by rw [x53]; (clear hT hVT hE hk hS hd h90 hl hc hx1 hfl hK hQ h01 ha hpa h16 h8 e1 e2 e3q e4 e5 e6 hv hkk hkc E1 E2 E3 preA hV hW P1 P2 P4 P5 P6 x70 x71 x53 x142 hv2 l53; lia))
    have pa53 : pX_ (Xn_ Mx b kk a) v 5 3 ≤ Mx 5 3 + 1 := by
      unfold pX_; split
      · rw [x53]; (clear hT hVT hE hk hS hd h90 hl hc hx1 hfl hst hK hQ h01 e3 ha hpa h16 h8 e1 e2 e3q e4 e5 e6 hv hkk hkc E1 E2 E3 preA hV hW P1 P2 P3 P4 P5 P6 x70 x71 x53 x142 hv2 l53 Ea; lia)
      · rw [up_at, x53]; (clear hT hVT hE hk hS hd h90 hl hc hx1 hfl hst hK hQ h01 e3 ha hpa h16 h8 e1 e2 e3q e4 e5 e6 hv hkk hkc E1 E2 E3 preA hV hW P1 P2 P3 P4 P5 P6 x70 x71 x53 x142 hv2 l53 Ea; lia)
    have Eb : ER b F (pX_ (pX_ (Xn_ Mx b kk a) v) v) (Qn_ Mq b kk (Mx 71 a)) a o := ER_pX Ea (by (clear hT hVT hE hk hS hd h90 hl hc hx1 hfl hK hQ h01 ha hpa h16 h8 e1 e2 e3q e4 e5 e6 hv hkk hkc E1 E2 E3 preA hV hW P1 P2 P4 P5 P6 x70 x71 x53 x142 hv2 l53 Ea; lia))
    have y70 : pX_ (pX_ (Xn_ Mx b kk a) v) v 70 = Mx 70 := by rw [XF_70 P1 (by decide) (by decide) (by decide)]; exact x70
    have ya70 : pX_ (Xn_ Mx b kk a) v 70 = Mx 70 := by rw [pX_r (by decide) (by decide)]; exact x70
    have go : ∀ (G : mm_ → Prop), (∀ M', G M' → Kv M') → Tr_ wd0 pg0 (d + 2) 105 [.inr (.inr 1)] (pX_ (pX_ (Xn_ Mx b kk a) v) v) (rv_ fun M5 => rv_ Kv [] M5) Qt := by
      intro G hG
      refine y_105 Eb (by rw [y70]; (clear hT hVT hE hd h90 hl hc hfl hst hK hpa h16 e1 e2 e3q e4 hv E1 E2 preA hV hW P1 P2 P3 P4 x70 x71 x53 x142 hv2 l53 Ea pa53 Eb y70 ya70 hG; lia)) (fun hb => by unfold gS; rw [if_pos (hS hb)]; exact fun e => by cases e) (fun h12 hE5 => ?_) (fun hb h12 => ?_)
      · have qc : nx_ (Qn_ Mq b kk (Mx 71 a)) = Qn_ (nx_ Mq) b kk (Mx 71 a) := nx_Qn
        have Nq : QN Mq (nx_ (Qn_ Mq b kk (Mx 71 a))) := QN_tr QN_Qn QN_nx
        have er5 : ER b F (nX_ (pX_ (pX_ (Xn_ Mx b kk a) v) v)) (rgM_ (nx_ (Qn_ Mq b kk (Mx 71 a))) dd v v) (a + 1) o := ER_Q hE5 (rgM_6 (by decide)) (rgM_6 (by decide)) (rgM_6 (by decide)) (rgM_6 (by decide)) (rgM_6 (by decide))
        refine rv_i (hK _ (rgM_ (nx_ (Qn_ Mq b kk (Mx 71 a))) dd v v) v v ⟨by (clear hT hVT hE hk hS hd h90 hl hc hx1 hfl hst hK hQ h01 e3 ha hpa h16 h8 e1 e2 e3q e4 e5 e6 hv hkk hkc E1 E2 E3 preA hV hW P1 P2 P3 P4 P5 P6 x70 x71 x53 x142 hv2 l53 Ea pa53 Eb y70 ya70 hG h12 hE5 qc Nq er5; lia), er5, XF_tr Xn_XF (XF_tr P1 nX_XF), ⟨_, Nq, rfl⟩, ?_, fun i hi => ?_, fun hb => ?_, ?_, fun hb h0 => ?_⟩ h12 (fun Kv Qtq hk9 => preA _ (.inl ⟨h12, rfl⟩) _ _ fun V hV hW => ?_))
        · rw [nX_ne (by decide), P3]
        · rw [nX_ne (by decide), P4 i hi, x142]
        · rw [nX_ne (by decide)]; exact P5 hb
        · rw [nX_1 (by decide), P2]; (clear hT hVT hE hk hS hd h90 hl hc hx1 hfl hst hK hQ h01 e3 ha hpa h16 h8 e1 e2 e3q e4 e5 e6 hv hkk hkc E1 E3 preA hV hW P1 P2 P3 P4 P5 P6 x70 x71 x53 x142 hv2 l53 Ea pa53 Eb y70 ya70 hG h12 hE5 qc Nq er5; omega)
        · rw [rgM_6 (by decide), nx_6 (by decide)] at h0
          exact (E3 hb h0).2
        · have fin : ∀ M', M' = nx_ (Qn_ Mq b kk (Mx 71 a)) → V 124 [rr 6, ii dd, ii (Mx 71 a), ii v, ii v, none] [] M' := fun M' e => by
            rw [e]
            refine q_293e hV hW (ER_goq hE5) hd ?_ ?_ ?_ hk9
            · rw [Nq.2 90 (by decide) (by decide) (by decide)]; exact h90
            · rw [Nq.1 222 (by decide)]; exact hl
            · rw [Nq.1 220 (by decide)]; exact hc
          have e223 : nx_ Mq 223 dd = Mq 223 dd := by rw [nx_ne (by decide)]
          rw [e223]
          by_cases c : Mq 223 dd = 1
          · rw [if_pos c]
            refine q_236 (fin _ ?_)
            rw [qc]
            unfold Qn_
            rcases h01 with hb | hb
            · rw [if_pos (.inl hb)]
              unfold nt_; rw [if_pos (by rw [nx_6 (by decide)]; (clear hT hVT hE hk hS hd h90 hl hc hx1 hfl hst hK hQ e3 ha hpa e1 e2 e3q e4 e5 e6 hv hkk hkc E1 E2 E3 preA P1 P2 P3 P4 P5 P6 x70 x71 x53 x142 hv2 l53 Ea pa53 Eb y70 ya70 hG h12 hE5 qc Nq er5 hk9 hV hW fin e223 c; lia))]
            · have : x1 = 0 := by have := hx1 hb; (clear hT hVT hE hk hS hd h90 hl hc hx1 hfl hst hK hQ e3 ha hpa h16 h8 e1 e2 e3q e4 e5 e6 hv hkk hkc E1 E2 E3 preA P1 P2 P3 P4 P5 P6 x70 x71 x53 x142 hv2 l53 Ea pa53 Eb y70 ya70 hG h12 hE5 qc Nq er5 hk9 hV hW fin e223 hb; lia)
              rw [if_pos this] at hkk
              rw [if_neg (by (clear hT hVT hE hk hS hd h90 hl hc hx1 hfl hst hK hQ e3 ha hpa h16 e1 e2 e3q e4 e5 e6 hv hkc E1 E2 E3 preA P1 P2 P3 P4 P5 P6 x70 x71 x53 x142 hv2 l53 Ea pa53 Eb y70 ya70 hG h12 hE5 qc Nq er5 hk9 hV hW fin e223 c this; lia)), hkk]
          · rw [if_neg c]
            refine fin _ ?_
            rw [qc]
            unfold Qn_
            rcases h01 with hb | hb
            · rw [if_pos (.inl hb)]
            · have : x1 ≠ 0 := by have := hx1 hb; (clear hT hVT hE hk hS hd h90 hl hc hx1 hfl hst hK hQ e3 ha hpa h16 h8 e1 e2 e3q e4 e5 e6 hv hkk hkc E1 E2 E3 preA P1 P2 P3 P4 P5 P6 x70 x71 x53 x142 hv2 l53 Ea pa53 Eb y70 ya70 hG h12 hE5 qc Nq er5 hk9 hV hW fin e223 hb; lia)
              rw [if_neg this] at hkk
              rw [if_pos (.inr hkk)]
      · have ex : Xn_ Mx b kk a = Mx := by unfold Xn_; rw [if_pos (.inl hb)]
        have e0 := P6 hb
        rw [ex] at e0
        rw [ex, e0]
        have hsp := SQ_bf hE hb (k := 2) (by decide) (QA_rf (M := Mq))
        refine hQ hb _ fl_XF fun Kv Qtq hk9 => preA _ (.inr ⟨hb, h12, rfl⟩) _ _ fun V hV hW => ?_
        split
        · refine q_236 ?_
          rw [nt_s hsp.1]; exact q_293s hV hW hsp.1 (hk9 _ hsp)
        · exact q_293s hV hW hsp.1 (hk9 _ hsp)
    refine b_164_40 (Tr_mono _) hV hW _ _ _ ?_
    have st1 := ER_st E1
    have st2 := ER_st Ea
    have va2 : pX_ (Xn_ Mx b kk a) v 1 2 = 5 := by rw [pX_1]; exact hv2
    rcases hk with k | k
    · rw [if_pos k] at hv
      refine y_103 E1 (fun _ => ?_) (fun e => absurd (by rw [x70]; exact k) e)
      rw [if_neg (by decide)]
      rw [hv] at *
      refine x_138 hv2 st1.1 st1.2 ?_
      refine y_103 Ea (fun _ => ?_) (fun e => absurd (by rw [ya70]; exact k) e)
      rw [if_neg (by decide)]
      exact x_138 va2 st2.1 st2.2 (go Kv fun _ h => h)
    · rw [if_neg (by omega)] at hv
      refine y_103 E1 (fun e => by rw [x70] at e; (clear hT hVT hE hS hd h90 hl hc hx1 hfl hst hK hQ h01 e3 ha hpa h16 h8 e1 e2 e3q e4 e5 e6 hv hkk hkc E1 E2 E3 preA hV hW P1 P2 P3 P4 P5 P6 x70 x71 x53 x142 hv2 l53 Ea pa53 Eb y70 ya70 go st1 st2 va2; lia)) (fun _ => ?_)
      rw [if_pos rfl]
      rw [hv] at *
      refine x_138 hv2 st1.1 st1.2 ?_
      refine y_103 Ea (fun e => by rw [ya70] at e; (clear hT hVT hE hS hd h90 hl hc hx1 hfl hst hK hQ h01 e3 ha hpa h16 h8 e1 e2 e3q e4 e5 e6 hv hkk hkc E1 E2 E3 preA hV hW P1 P2 P3 P4 P5 P6 x70 x71 x53 x142 hv2 l53 Ea pa53 Eb y70 ya70 go st1 st2 va2; lia)) (fun _ => ?_)
      rw [if_pos rfl]
      exact x_138 va2 st2.1 st2.2 (go Kv fun _ h => h)
  have note : bl_ (Mx 1 8) → (if Mx 1 8 = 0 then V 40 [rr 1, ii x1, ii a, none, none, none] [] Mx else (if x1 = 0 then Tr_ wd0 pg0 (d + 2) 116 [.inr (.inr 1), .inl 5, .inl a] Mx (rv_ fun M2 => V 40 [rr 1, ii x1, ii a, none, none, none] [] M2) Qt else V 40 [rr 1, ii x1, ii a, none, none, none] [] Mx)) := by
    intro _
    unfold Xn_ at X40
    by_cases c : Mx 1 8 = 0
    · rw [if_pos c]; rw [if_pos (.inl (by (clear hT hVT hE hk hS hd h90 hl hc hx1 hfl hst hK hQ h01 e3 ha hpa h16 e1 e2 e3q e4 e5 e6 hv hkk hkc E1 E2 E3 preA hV hW X40; lia)))] at X40; exact X40
    · rw [if_neg c]
      by_cases c2 : x1 = 0
      · rw [if_pos c2]
        rw [if_pos c2] at hkk
        rw [if_neg (by (clear hT hVT hE hk hS hd h90 hl hc hx1 hfl hst hK hQ h01 e3 ha hpa h16 e1 e2 e3q e4 e5 e6 hv hkc E1 E2 E3 preA hV hW X40 c2; lia)), hkk] at X40
        exact x_116 ha.1 (by (clear hT hVT hE hk hS hd h90 hl hc hx1 hfl hst hK hQ h01 hpa h16 h8 e1 e2 e3q e4 e5 e6 hv hkk hkc E1 E2 E3 preA hV hW X40 c c2; omega)) (ER_fl hE).1 (ER_fl hE).2 X40
      · rw [if_neg c2]
        rw [if_neg c2] at hkk
        rw [if_pos (.inr hkk)] at X40; exact X40
  rw [e3]
  rcases hk with k | k
  · refine y_103 hE (fun _ => ?_) (fun e => absurd k e)
    rw [if_neg (by decide)]; exact note
  · refine y_103 hE (fun e => by (clear hT hVT hE hS hd h90 hl hc hx1 hfl hst hK hQ h01 e3 ha hpa h16 h8 e1 e2 e3q e4 e5 e6 hv hkk hkc E1 E2 E3 preA hV hW X40 note; lia)) (fun _ => ?_)
    rw [if_pos rfl]
    refine y_103 hE (fun _ => ?_) (fun e => absurd k e)
    rw [if_neg (by decide)]; exact note
end RG
end T136_rg
section T137_rg
/-! a range of numbers -/
section RG
variable {d dq n : Nat} {b F : Int} {Mx Mq Mx1 Mq1 M N : mm_} {a a1 o x dd lo hi : Int} {K : Int → mm_ → Prop} {Kv G : mm_ → Prop} {Qt : qt_} {V : vv_}
theorem GN_XF [Inhabited gh_] (h : GN Mx Mq Mx1 Mq1) : XF Mx Mx1 ∧ QN Mq Mq1 := ⟨⟨fun r hr => h.1.1 r (fun e => hr (by rw [e]; decide)), fun i h3 _ _ _ _ => h.1.2 i h3, fun i _ => by rw [h.1.1 5 (by decide)]⟩, ⟨h.2.1, fun i h1 _ _ => h.2.2 i h1⟩⟩
theorem nt_nn [Inhabited gh_] {x y k p : Int} (h16 : M 6 16 = b) (h01 : b = 0 ∨ b = 1) (hk : k = if x = y then 5 else 0) : (if x = y then nt_ M 5 p else M) = Qn_ M b k p := by
  unfold Qn_
  by_cases c : x = y
  · rw [if_pos c] at hk ⊢
    rcases h01 with hb | hb
    · rw [if_pos (.inl hb)]; unfold nt_; rw [if_pos (by (clear hk c; lia))]
    · rw [if_neg (by (clear h16 c; lia)), hk]
  · rw [if_neg c] at hk ⊢
    rw [if_pos (.inr hk)]
/-- the end: two words, a range kept -/
theorem l_164e [Inhabited gh_] {Nq Mx2 : mm_} {a2 lo hi : Int} (hE2 : ER b F Mx2 Nq a2 o) (h2 : Mx2 1 2 = 5) (hst : Mx2 5 3 + 2 ≤ 9 * a2 + 1000) (hx : XF Mx Mx2) (hN : QN Mq Nq) (h53 : Mx2 5 = Mx 5) (h142 : Mx2 142 = Mx 142) (ha : a < a2) (h7 : Mx 1 7 ≤ Mx2 1 7 ∧ Mx2 1 7 ≤ Mx 1 7 + 2) (h13 : b = 1 → Nq 6 13 = 0 → Mq 6 13 = 0)
    (hK : ∀ Mx' Mq', RR b F Mx Mq Mx' Mq' a a2 o dd lo hi → Mq' = rgM_ Nq dd lo hi → Kv Mx') : Tr_ wd0 pg0 (d + 2) 138 [.inr (.inr 1), .inl lo] Mx2 (rv_ fun M6 => Tr_ wd0 pg0 (d + 2) 138 [.inr (.inr 1), .inl hi] M6 (rv_ fun M7 => rv_ Kv [] M7) Qt) Qt := by
  have h01 := bl01 hE2
  obtain ⟨P1, P2, P3, P4, P5, P6⟩ := PX2 (M := Mx2) hE2.2.2.2.2.2.2.1 h01 lo hi
  have Ea := ER_pX (v := lo) hE2 (by (clear hE2 h2 hx hN h53 h142 ha h7 h13 hK h01 P1 P2 P4 P5 P6; omega))
  have pa53 : pX_ Mx2 lo 5 3 ≤ Mx2 5 3 + 1 := by
    unfold pX_; split
    · (clear hE2 h2 hst hx hN h53 h142 ha h7 h13 hK h01 P1 P2 P3 P4 P5 P6 Ea; lia)
    · rw [up_at]; (clear hE2 h2 hst hx hN h53 h142 ha h7 h13 hK h01 P1 P2 P3 P4 P5 P6 Ea; omega)
  have Eb := ER_pX (v := hi) Ea (by (clear hE2 h2 hx hN h53 h142 ha h7 h13 hK h01 P1 P2 P4 P5 P6 Ea; omega))
  refine x_138 h2 (ER_st hE2).1 (ER_st hE2).2 (x_138 (by rw [pX_1]; exact h2) (ER_st Ea).1 (ER_st Ea).2 (rv_i ?_))
  refine hK _ (rgM_ Nq dd lo hi) ⟨ha, ER_Q Eb (rgM_6 (by decide)) (rgM_6 (by decide)) (rgM_6 (by decide)) (rgM_6 (by decide)) (rgM_6 (by decide)), XF_tr hx P1, ⟨Nq, hN, rfl⟩, by rw [P3, h53], fun i hi => by rw [P4 i (by rw [h53]; exact hi), h142], fun hb => by have := P5 hb; rw [h53] at this; exact this, by rw [P2]; exact h7, fun hb h0 => h13 hb (by rw [rgM_6 (by decide)] at h0; exact h0)⟩ rfl
theorem y_164n [Inhabited gh_] {x1 : Int} (hT : Tks Mx Mq) (hVT : VT Mx Mq) (hE : ER b F Mx Mq a o) (hk : Mx 70 a ≠ 31 ∧ Mx 70 a ≠ 32) (hS : b = 1 → rgS (Mx 70) a ≠ none) (hd : 0 ≤ dd ∧ dd < 14) (h90 : 0 ≤ Mq 6 90 ∧ Mq 6 90 < 1300) (hl : Mq 222 dd < 1300) (hc : 0 ≤ Mq 220 dd ∧ Mq 220 dd < 1300) (hx1 : b = 1 → Mq 223 dd = x1 + 1) (hfl : Mx 1 7 + 2 + 8 * (1201 - a) ≤ 1000001000 - (gg_ : Int)) (hst : Mx 5 3 + 2 ≤ 9 * a + 1000)
    (hK : ∀ Mx' Mq' a' lo hi, RR b F Mx Mq Mx' Mq' a a' o dd lo hi → rgS (Mx 70) a = some a' → (∀ (Kv : mm_ → Prop) (Qtq : qt_), Kv Mq' → Tr_ wd0 pg0 (dq + 5) 293 [.inr (.inr 6), .inl dd, .inl (Mx 71 a)] Mq (rv_ Kv) Qtq) → Kv Mx')
    (hQ : b = 0 → ∀ Mx', XF Mx Mx' → (∀ (Kv : mm_ → Prop) (Qtq : qt_), (∀ M', SQ Mx' Mq M' → Kv M') → Tr_ wd0 pg0 (dq + 5) 293 [.inr (.inr 6), .inl dd, .inl (Mx 71 a)] Mq (rv_ Kv) Qtq) → Qt 8 Mx') :
    Tr_ wd0 pg0 (d + 6) 164 [.inr (.inr 1), .inl x1] Mx (rv_ Kv) Qt := by
  have h01 := bl01 hE
  have e3 := hE.2.1
  have ha := ER_a hE
  have hpa := tk_p hT hE.1
  have eS : rgS (Mx 70) a = (boS (Mx 70) a).bind fun a1 => if Mx 70 a1 = 115 then (gS a1).bind (boS (Mx 70)) else some a1 := by unfold rgS; rw [if_neg (by (clear hT hVT hE hd h90 hl hc hfl hst hK e3 ha hpa; lia))]
  rw [eS] at hS hK
  refine t_164 fun V hV hW => b_164_0 (Tr_mono _) hV hW _ _ ?_
  refine y_103 hE (fun e => absurd e hk.1) (fun _ => ?_)
  rw [if_pos rfl]
  refine y_103 hE (fun e => absurd e hk.2) (fun _ => ?_)
  rw [if_pos rfl, e3]
  have pre0 : ∀ (Kv : mm_ → Prop) (Qtq : qt_), (∀ V : vv_, Cl_ wd0 (Tr_ wd0 pg0 (dq + 4)) V (rv_ Kv) Qtq m_293 → Wk_ V → Tr_ wd0 pg0 (dq + 4) 294 [.inr (.inr 6)] Mq (ri_ fun v4 M4 => (0 ≤ dd ∧ dd < 14) ∧ (if M4 223 dd = 2 then Tr_ wd0 pg0 (dq + 4) 236 [.inr (.inr 6), .inl 5, .inl (Mx 71 a)] M4 (rv_ fun M5 => V 83 [rr 6, ii dd, ii (Mx 71 a), ii v4, ii v4, none] [] M5) Qtq else V 83 [rr 6, ii dd, ii (Mx 71 a), ii v4, ii v4, none] [] M4)) Qtq) → Tr_ wd0 pg0 (dq + 5) 293 [.inr (.inr 6), .inl dd, .inl (Mx 71 a)] Mq (rv_ Kv) Qtq := by
    intro Kv Qtq hq
    refine t_293 fun V hV hW => b_293_0 (Tr_mono _) hV hW _ _ _ (j_229f hT hE (by decide) hk.1 ?_)
    rw [if_pos rfl]
    refine j_229f hT hE (by decide) hk.2 ?_
    rw [if_pos rfl]
    exact hq V hV hW
  have stop : ∀ {Mx' M' : mm_} (hsp : SQ Mx' Mq M') (Kv : mm_ → Prop) (Qtq : qt_) (V : vv_) (hV : Cl_ wd0 (Tr_ wd0 pg0 (dq + 4)) V (rv_ Kv) Qtq m_293) (hW : Wk_ V) (x y : Int) (hk9 : ∀ M', SQ Mx' Mq M' → Kv M'), V 83 [rr 6, ii dd, ii (Mx 71 a), ii x, ii y, none] [] M' := by
    intro Mx' M' hsp Kv Qtq V hV hW x y hk9
    refine b_293_83 (Tr_mono _) hV hW _ _ _ _ _ (q_242s hsp.1 ?_)
    rw [if_pos rfl]
    exact q_293s hV hW hsp.1 (hk9 _ hsp)
  refine y_165 (dq := dq) hT hE (fun hb => by intro e; have := hS hb; rw [e] at this; exact this rfl) (fun Mx1 Mq1 a1 lo hGN hT1 hE1 ha1 hbo hlo hq1 => ?_) (fun hb Mx' hx hq => ?_)
  rotate_left
  · refine hQ hb Mx' hx fun Kv Qtq hk9 => pre0 _ _ fun V hV hW => hq _ _ fun v M' hsp => ⟨hd, ?_⟩
    split
    · refine q_236 ?_
      rw [nt_s hsp.1]; exact stop hsp Kv Qtq V hV hW _ _ hk9
    · exact stop hsp Kv Qtq V hV hW _ _ hk9
  rw [hbo, Option.bind_some] at hS hK
  obtain ⟨gx, gq⟩ := GN_XF hGN
  have h71 : Mx1 71 = Mx 71 := hGN.1.1 71 (by decide)
  have h70 : Mx1 70 = Mx 70 := hGN.1.1 70 (by decide)
  have h17 : Mx1 1 7 = Mx 1 7 := hGN.1.2 7 (by decide)
  obtain ⟨kk, hkk⟩ : ∃ kk : Int, kk = if x1 = 1 then 5 else 0 := ⟨_, rfl⟩
  have hkc : kk = 0 ∨ (3 ≤ kk ∧ kk ≤ 6) := by rw [hkk]; split <;> omega
  obtain ⟨E1, E2, E3⟩ := ER_m (k := kk) (tk := a) hE1 hkc (by rw [h71]; exact hpa) (by (clear hT hVT hE hk hd h90 hl hc hx1 hst hQ h01 ha hpa eS hV hW pre0 stop hK hS hGN hT1 hE1 hbo hlo hq1 gx gq h71 h70 hkk hkc; lia))
  rw [h71] at E1 E3
  have pre1 : ∀ (Kv : mm_ → Prop) (Qtq : qt_), (∀ V : vv_, Cl_ wd0 (Tr_ wd0 pg0 (dq + 4)) V (rv_ Kv) Qtq m_293 → Wk_ V → V 83 [rr 6, ii dd, ii (Mx 71 a), ii lo, ii lo, none] [] (Qn_ Mq1 b kk (Mx 71 a))) → Tr_ wd0 pg0 (dq + 5) 293 [.inr (.inr 6), .inl dd, .inl (Mx 71 a)] Mq (rv_ Kv) Qtq := by
    intro Kv Qtq hq
    refine pre0 _ _ fun V hV hW => hq1 _ _ ⟨hd, ?_⟩
    have := hq V hV hW
    have e223 : Mq1 223 dd = Mq 223 dd := by rw [hGN.2.1 223 (by decide)]
    rw [e223]
    rcases h01 with hb | hb
    · have e0 : Qn_ Mq1 b kk (Mx 71 a) = Mq1 := by unfold Qn_; rw [if_pos (.inl hb)]
      rw [e0] at this
      split
      · refine q_236 ?_
        have e1 : nt_ Mq1 5 (Mx 71 a) = Mq1 := by unfold nt_; rw [if_pos (by rw [hE1.2.2.2.2.2.2.2.1]; exact hb)]
        rw [e1]; exact this
      · exact this
    · have hx := hx1 hb
      have hk2 : kk = if Mq 223 dd = 2 then (5 : Int) else 0 := by
        rw [hkk]
        by_cases c : x1 = 1
        · rw [if_pos c, if_pos (by (clear hT hVT hE hk hd h90 hl hc hx1 hfl hst hQ e3 ha hpa eS pre0 stop hK hS hGN hT1 hE1 ha1 hbo hlo hq1 gx gq h71 h70 h17 hkk hkc E1 E2 E3 hq hV hW this e223 hb; omega))]
        · rw [if_neg c, if_neg (by (clear hT hVT hE hk hd h90 hl hc hx1 hfl hst hQ e3 ha hpa eS pre0 stop hK hS hGN hT1 hE1 ha1 hbo hlo hq1 gx gq h71 h70 h17 hkk hkc E1 E2 E3 hq hV hW this e223 hb; omega))]
      rw [← nt_nn (M := Mq1) (p := Mx 71 a) hE1.2.2.2.2.2.2.2.1 (.inr hb) hk2] at this
      by_cases c : Mq 223 dd = 2
      · rw [if_pos c] at this ⊢; exact q_236 this
      · rw [if_neg c] at this ⊢; exact this
  -- X behind its note
  have X107 : V 107 [rr 1, ii x1, ii a, ii lo, ii lo, none] [] (Xn_ Mx1 b kk a) := by
    have x70 : Xn_ Mx1 b kk a 70 = Mx 70 := by rw [Xn_r (by decide)]; exact h70
    have x71 : Xn_ Mx1 b kk a 71 = Mx 71 := by rw [Xn_r (by decide)]; exact h71
    have x5 : Xn_ Mx1 b kk a 5 = Mx 5 := by rw [Xn_r (by decide)]; exact hGN.1.1 5 (by decide)
    have x142 : Xn_ Mx1 b kk a 142 = Mx 142 := by rw [Xn_r (by decide)]; exact hGN.1.1 142 (by decide)
    have x12 : Xn_ Mx1 b kk a 1 2 = 5 := by rw [Xn_1 (by decide) (by decide) (by decide), hGN.1.2 2 (by decide)]; exact hVT.1
    have hx2 : XF Mx (Xn_ Mx1 b kk a) := XF_tr gx Xn_XF
    have hq2 : QN Mq (Qn_ Mq1 b kk (Mx 71 a)) := QN_tr gq QN_Qn
    have q13 : b = 1 → Qn_ Mq1 b kk (Mx 71 a) 6 13 = 0 → Mq 6 13 = 0 := fun hb h0 => by
      have := (E3 hb h0).2
      rw [hGN.2.2 13 (by decide)] at this; exact this
    have hT2 : Tks (Xn_ Mx1 b kk a) (Qn_ Mq1 b kk (Mx 71 a)) := Tks_c Xn_XF Qn_QF hT1
    generalize hX2 : Xn_ Mx1 b kk a = Mx2 at *
    generalize hQ2 : Qn_ Mq1 b kk (Mx 71 a) = Mq2 at *
    have kept : ∀ {Nq : mm_} {lo hi : Int} (Kv : mm_ → Prop) (Qtq : qt_) (V : vv_) (hV : Cl_ wd0 (Tr_ wd0 pg0 (dq + 4)) V (rv_ Kv) Qtq m_293) (hW : Wk_ V), QN Mq Nq → go_ Nq → Kv (rgM_ Nq dd lo hi) → V 124 [rr 6, ii dd, ii (Mx 71 a), ii lo, ii hi, none] [] Nq := fun Kv Qtq V hV hW hN hg hk => q_293e hV hW hg hd (by rw [hN.2 90 (by decide) (by decide) (by decide)]; exact h90) (by rw [hN.1 222 (by decide)]; exact hl) (by rw [hN.1 220 (by decide)]; exact hc) hk
    refine b_164_107 (Tr_mono _) hV hW _ _ _ _ _ ?_
    refine y_103 E1 (fun k1 => ?_) (fun k1 => ?_)
    · -- dots
      rw [if_neg (by decide)]
      have k1' : Mx 70 a1 = 115 := by rw [← x70]; exact k1
      rw [if_pos k1'] at hS hK
      refine y_105 E1 (by rw [x70]; (clear hT hVT hE hk hd h90 hl hc hx1 hfl hst hQ h01 e3 ha hpa eS hV hW pre0 stop hK hS hGN hT1 hE1 ha1 hbo hlo hq1 gx gq h71 h70 h17 hkk hkc hX2 E2 x70 x71 x5 x142 x12 hx2 hQ2 E3 pre1 hq2 q13 E1 hT2 kept k1; lia)) (fun hb => by intro e; have := hS hb; rw [e] at this; exact this rfl) (fun h12 E4 => ?_) (fun hb h12 => ?_)
      rotate_left
      · have hsp := SQ_bf E1 hb (k := 2) (by decide) (QF_QA (QN_QF hq2))
        refine hQ hb _ (XF_tr hx2 fl_XF) fun Kv Qtq hk9 => pre1 _ _ fun V hV hW => b_293_83 (Tr_mono _) hV hW _ _ _ _ _ (j_242r hT2 E1 hb (by decide) k1 h12 ?_)
        rw [if_neg (by decide)]
        refine ⟨hsp.2.1, t_294 fun V2 hV2 hW2 => b_294_0 (Tr_mono _) hV2 hW2 _ (q_242s hsp.1 (q_249s hsp.1 ?_))⟩
        rw [if_pos rfl]
        refine ri_i ?_
        split
        · exact q_293s hV hW hsp.1 (hk9 _ hsp)
        · refine q_236 ?_
          rw [nt_s hsp.1]; exact q_293s hV hW hsp.1 (hk9 _ hsp)
      rw [gS_e h12, Option.bind_some] at hS hK
      have hT4 : Tks (nX_ Mx2) (nx_ Mq2) := Tks_c nX_XF nx_QF hT2
      have y70 : nX_ Mx2 70 = Mx 70 := by rw [nX_ne (by decide)]; exact x70
      have y71 : nX_ Mx2 71 = Mx 71 := by rw [nX_ne (by decide)]; exact x71
      have hga4 := E4.1
      have hp4 := tk_p hT4 hga4
      have p4 : nx_ Mq2 150 (nx_ Mq2 6 12) = nX_ Mx2 71 (a1 + 1) := (ER_k hT4 E4).2.1
      have pre2 : ∀ (Kv : mm_ → Prop) (Qtq : qt_), (∀ V : vv_, Cl_ wd0 (Tr_ wd0 pg0 (dq + 4)) V (rv_ Kv) Qtq m_293 → Wk_ V → Tr_ wd0 pg0 (dq + 4) 294 [.inr (.inr 6)] (nx_ Mq2) (ri_ fun v2 M2 => (if lo ≤ v2 then V 124 [rr 6, ii dd, ii (Mx 71 a), ii lo, ii v2, none] [] M2 else Tr_ wd0 pg0 (dq + 4) 236 [.inr (.inr 6), .inl 6, .inl (Mx 71 (a1 + 1))] M2 (rv_ fun M3 => V 124 [rr 6, ii dd, ii (Mx 71 a), ii lo, ii v2, none] [] M3) Qtq)) Qtq) → Tr_ wd0 pg0 (dq + 5) 293 [.inr (.inr 6), .inl dd, .inl (Mx 71 a)] Mq (rv_ Kv) Qtq := by
        intro Kv Qtq hq
        refine pre1 _ _ fun V hV hW => b_293_83 (Tr_mono _) hV hW _ _ _ _ _ (j_242t hT2 E1 (by decide) k1 h12 ?_)
        rw [if_neg (by decide), p4, y71]
        exact ⟨(ER_k hT4 E4).2.2.1, hq V hV hW⟩
      rw [E4.2.1]
      refine y_165 (dq := dq) hT4 E4 (fun hb => by rw [y70]; exact hS hb) (fun Mx5 Mq5 a5 hi hGN5 hT5 hE5 ha5 hbo5 hhi hq5 => ?_) (fun hb Mx' hx hq => ?_)
      rotate_left
      · refine hQ hb Mx' (XF_tr hx2 (XF_tr nX_XF hx)) fun Kv Qtq hk9 => pre2 _ _ fun V hV hW => hq _ _ fun v M' hsp => ?_
        have hsp' : SQ Mx' Mq M' := SQ_q (QF_QA (QN_QF (QN_tr hq2 QN_nx))) hsp
        split
        · exact q_293s hV hW hsp.1 (hk9 _ hsp')
        · refine q_236 ?_
          rw [nt_s hsp.1]; exact q_293s hV hW hsp.1 (hk9 _ hsp')
      rw [y70] at hbo5
      rw [hbo5] at hK
      obtain ⟨gx5, gq5⟩ := GN_XF hGN5
      have z71 : Mx5 71 = Mx 71 := by rw [hGN5.1.1 71 (by decide)]; exact y71
      obtain ⟨k6, hk6⟩ : ∃ k6 : Int, k6 = if hi < lo then 6 else 0 := ⟨_, rfl⟩
      have hkc6 : k6 = 0 ∨ (3 ≤ k6 ∧ k6 ≤ 6) := by rw [hk6]; split <;> omega
      have f5 : Mx5 1 7 = Mx2 1 7 := by rw [hGN5.1.2 7 (by decide), nX_1 (by decide)]
      obtain ⟨D1, D2, D3⟩ := ER_m (k := k6) (tk := a1 + 1) hE5 hkc6 (by rw [z71]; rw [y71] at hp4; exact hp4) (by (clear hT hVT hE hk hd h90 hl hc hx1 hst hQ h01 ha hpa eS hV hW pre0 stop hS hGN hT1 hE1 hbo hlo hq1 gx gq h71 h70 hkk hkc hX2 x70 x71 x5 x142 x12 hx2 hQ2 E3 pre1 hq2 q13 E1 hT2 kept k1 k1' h12 E4 hT4 y70 y71 hga4 hp4 p4 pre2 hK hGN5 hT5 hE5 hbo5 hhi hq5 gx5 gq5 z71 hk6 hkc6; lia))
      rw [z71] at D1 D3
      have fin : Tr_ wd0 pg0 (d + 5) 138 [.inr (.inr 1), .inl lo] (Xn_ Mx5 b k6 (a1 + 1)) (rv_ fun M6 => Tr_ wd0 pg0 (d + 5) 138 [.inr (.inr 1), .inl hi] M6 (rv_ fun M7 => rv_ Kv [] M7) Qt) Qt := by
        refine l_164e (d := d + 3) (Mx := Mx) (Mq := Mq) (a := a) (dd := dd) D1 ?_ ?_ (XF_tr hx2 (XF_tr nX_XF (XF_tr gx5 Xn_XF))) (QN_tr hq2 (QN_tr QN_nx (QN_tr gq5 QN_Qn))) ?_ ?_ (by (clear hT hVT hE hk hd h90 hl hc hx1 hfl hst hQ h01 ha hpa eS hV hW pre0 stop hS hGN hT1 hE1 hbo hlo hq1 gx gq h71 h70 h17 hkk hkc hX2 E2 x70 x71 x5 x142 x12 hx2 hQ2 E3 pre1 hq2 q13 E1 hT2 kept k1 k1' h12 E4 hT4 y70 y71 hga4 hp4 p4 pre2 hK hGN5 hT5 hE5 hbo5 hhi hq5 gx5 gq5 z71 hk6 hkc6 f5 D1 D2 D3; omega)) (by (clear hT hVT hE hk hd h90 hl hc hx1 hfl hst hQ h01 e3 ha hpa eS hV hW pre0 stop hS hGN hT1 hE1 ha1 hbo hlo hq1 gx gq h71 h70 hkk hkc hX2 x70 x71 x5 x142 x12 hx2 hQ2 E3 pre1 hq2 q13 E1 hT2 kept k1 k1' h12 E4 hT4 y70 y71 hga4 hp4 p4 pre2 hK hGN5 hT5 hE5 ha5 hbo5 hhi hq5 gx5 gq5 z71 hk6 hkc6 D1 D3; omega)) (fun hb h0 => ?_) (fun Mx' Mq' hR eq => hK Mx' Mq' a5 lo hi hR rfl fun Kv Qtq hk9 => pre2 _ _ fun V hV hW => hq5 _ _ ?_)
        · rw [Xn_1 (by decide) (by decide) (by decide), hGN5.1.2 2 (by decide), nX_1 (by decide)]; exact x12
        · rw [Xn_r (by decide), hGN5.1.1 5 (by decide), nX_ne (by decide), x5]; (clear hT hVT hE hk hd h90 hl hc hx1 hfl hQ h01 ha hpa eS hV hW pre0 stop hS hGN hT1 hE1 hbo hlo hq1 gx gq h71 h70 h17 hkk hkc hX2 E2 x70 x71 x5 x142 x12 hx2 hQ2 E3 pre1 hq2 q13 E1 hT2 kept k1 k1' h12 E4 hT4 y70 y71 hga4 hp4 p4 pre2 hK hGN5 hT5 hE5 hbo5 hhi hq5 gx5 gq5 z71 hk6 hkc6 f5 D1 D2 D3; lia)
        · rw [Xn_r (by decide), hGN5.1.1 5 (by decide), nX_ne (by decide), x5]
        · rw [Xn_r (by decide), hGN5.1.1 142 (by decide), nX_ne (by decide), x142]
        · have := (D3 hb h0).2
          rw [hGN5.2.2 13 (by decide), nx_6 (by decide)] at this
          exact q13 hb this
        · rw [eq] at hk9
          have QNf : QN Mq (Qn_ Mq5 b k6 (Mx 71 (a1 + 1))) := QN_tr hq2 (QN_tr QN_nx (QN_tr gq5 QN_Qn))
          have kp := kept (lo := lo) (hi := hi) Kv Qtq V hV hW QNf (ER_goq D1) hk9
          by_cases c : lo ≤ hi
          · rw [if_pos c]
            have e0 : Qn_ Mq5 b k6 (Mx 71 (a1 + 1)) = Mq5 := by unfold Qn_; rw [if_pos (.inr (by rw [hk6, if_neg (by (clear hT hVT hE hk hd h90 hl hc hx1 hfl hst hQ h01 e3 ha hpa eS pre0 stop hS hGN hT1 hE1 ha1 hbo hlo hq1 gx gq h71 h70 h17 hkk hkc hX2 E2 x70 x71 x5 x142 x12 hx2 hQ2 E3 pre1 hq2 q13 E1 hT2 kept k1 k1' h12 E4 hT4 y70 y71 hga4 hp4 p4 pre2 hK hGN5 hT5 hE5 ha5 hbo5 hhi hq5 gx5 gq5 z71 hk6 hkc6 f5 D1 D2 D3 hR eq hk9 hV hW QNf kp; lia))]))]
            rw [e0] at kp; exact kp
          · rw [if_neg c]
            refine q_236 ?_
            have e0 : Qn_ Mq5 b k6 (Mx 71 (a1 + 1)) = nt_ Mq5 6 (Mx 71 (a1 + 1)) := by
              rw [if_pos (by (clear hT hVT hE hk hd h90 hl hc hx1 hfl hst hQ h01 e3 ha hpa eS pre0 stop hS hGN hT1 hE1 ha1 hbo hlo hq1 gx gq h71 h70 h17 hkk hkc hX2 E2 x70 x71 x5 x142 x12 hx2 hQ2 E3 pre1 hq2 q13 E1 hT2 kept k1 k1' h12 E4 hT4 y70 y71 hga4 hp4 p4 pre2 hK hGN5 hT5 hE5 ha5 hbo5 hhi hq5 gx5 gq5 z71 hk6 hkc6 f5 D1 D2 D3 hR eq hk9 hV hW QNf kp; omega))] at hk6
              unfold Qn_
              rcases h01 with hb | hb
              · rw [if_pos (.inl hb)]; unfold nt_; rw [if_pos (by rw [hE5.2.2.2.2.2.2.2.1]; exact hb)]
              · rw [if_neg (by (clear hT hVT hE hk hd h90 hl hc hx1 hfl hst hQ e3 ha hpa eS pre0 stop hS hGN hT1 hE1 ha1 hbo hlo hq1 gx gq h71 h70 h17 hkk hkc hX2 E2 x70 x71 x5 x142 x12 hx2 hQ2 E3 pre1 hq2 q13 E1 hT2 kept k1 k1' h12 E4 hT4 y70 y71 hga4 hp4 p4 pre2 hK hGN5 hT5 hE5 ha5 hbo5 hhi hq5 gx5 gq5 z71 hkc6 f5 D1 D2 D3 hR eq hk9 hV hW QNf kp c; lia)), hk6]
            rw [e0] at kp; exact kp
      intro _
      unfold Xn_ at fin
      have z8 : Mx5 1 8 = b := hE5.2.2.2.2.2.2.1
      by_cases c : Mx5 1 8 = 0
      · rw [if_pos c]; rw [if_pos (.inl (by (clear hT hVT hE hk hd h90 hl hc hx1 hfl hst hQ h01 e3 ha hpa eS hV hW pre0 stop hS hGN hT1 hE1 ha1 hbo hlo hq1 gx gq h71 h70 h17 hkk hkc hX2 E2 x70 x71 x5 x142 x12 hx2 hQ2 E3 pre1 hq2 q13 E1 hT2 kept k1 k1' h12 E4 hT4 y70 y71 hga4 hp4 p4 pre2 hK hGN5 hT5 hE5 ha5 hbo5 hhi hq5 gx5 gq5 z71 hk6 hkc6 f5 D1 D2 D3 fin; lia)))] at fin; exact fin
      · rw [if_neg c]
        by_cases c2 : hi < lo
        · rw [if_pos c2]
          rw [if_pos c2] at hk6
          rw [if_neg (by (clear hT hVT hE hk hd h90 hl hc hx1 hfl hst hQ h01 e3 ha hpa eS hV hW pre0 stop hS hGN hT1 hE1 ha1 hbo hlo hq1 gx gq h71 h70 h17 hkk hkc hX2 E2 x70 x71 x5 x142 x12 hx2 hQ2 E3 pre1 hq2 q13 E1 hT2 kept k1 k1' h12 E4 hT4 y70 y71 hga4 hp4 p4 pre2 hK hGN5 hT5 hE5 ha5 hbo5 hhi hq5 gx5 gq5 z71 hkc6 f5 D1 D2 D3 fin c2; lia)), hk6] at fin
          exact x_116 hga4.1 (by have := hga4.2.1; (clear hT hVT hE hk hd h90 hl hc hx1 hfl hst hQ h01 e3 ha hpa eS hV hW pre0 stop hS hGN hT1 hE1 ha1 hbo hlo hq1 gx gq h71 h70 h17 hkk hkc hX2 E2 x70 x71 x5 x142 x12 hx2 hQ2 E3 pre1 hq2 q13 E1 hT2 kept k1 k1' E4 hT4 y70 y71 hga4 hp4 p4 pre2 hK hGN5 hT5 hE5 ha5 hbo5 hhi hq5 gx5 gq5 z71 hk6 hkc6 f5 D1 D2 D3 fin z8 c c2 this; omega)) (ER_fl hE5).1 (ER_fl hE5).2 fin
        · rw [if_neg c2]
          rw [if_neg c2] at hk6
          rw [if_pos (.inr hk6)] at fin; exact fin
    · rw [if_pos rfl]
      have k1' : Mx 70 a1 ≠ 115 := by rw [← x70]; exact k1
      rw [if_neg k1'] at hS hK
      refine l_164e (d := d + 3) (Mx := Mx) (Mq := Mq) (a := a) (dd := dd) E1 x12 (by rw [x5]; (clear hT hVT hE hk hd h90 hl hc hx1 hfl hQ h01 ha hpa eS hV hW pre0 stop hK hS hGN hT1 hE1 hbo hlo hq1 gx gq h71 h70 h17 hkk hkc hX2 E2 x70 x71 x5 x142 x12 hx2 hQ2 E3 pre1 hq2 q13 E1 hT2 kept k1 k1'; lia)) hx2 hq2 x5 x142 (by (clear hT hVT hE hk hd h90 hl hc hx1 hfl hst hQ h01 ha hpa eS hV hW pre0 stop hK hS hGN hT1 hE1 hbo hlo hq1 gx gq h71 h70 h17 hkk hkc hX2 E2 x70 x71 x5 x142 x12 hx2 hQ2 E3 pre1 hq2 q13 E1 hT2 kept k1 k1'; omega)) (by (clear hT hVT hE hk hd h90 hl hc hx1 hfl hst hQ h01 e3 ha hpa eS hV hW pre0 stop hK hS hGN hT1 hE1 ha1 hbo hlo hq1 gx gq h71 h70 hkk hkc hX2 x70 x71 x5 x142 x12 hx2 hQ2 E3 pre1 hq2 q13 E1 hT2 kept k1 k1'; omega)) q13 (fun Mx' Mq' hR eq => hK Mx' Mq' a1 lo lo hR rfl fun Kv Qtq hk9 => pre1 _ _ fun V hV hW => b_293_83 (Tr_mono _) hV hW _ _ _ _ _ (j_242f hT2 E1 (by decide) k1 ?_))
      rw [if_pos rfl]
      rw [eq] at hk9
      exact kept Kv Qtq V hV hW hq2 (ER_goq E1) hk9
  intro _
  unfold Xn_ at X107
  have z8 : Mx1 1 8 = b := hE1.2.2.2.2.2.2.1
  by_cases c : Mx1 1 8 = 0
  · rw [if_pos c]; rw [if_pos (.inl (by (clear hT hVT hE hk hd h90 hl hc hx1 hfl hst hQ h01 e3 ha hpa eS hV hW pre0 stop hK hS hGN hT1 hE1 ha1 hbo hlo hq1 gx gq h71 h70 h17 hkk hkc E1 E2 E3 pre1 X107; lia)))] at X107; exact X107
  · rw [if_neg c]
    by_cases c2 : x1 = 1
    · rw [if_pos c2]
      rw [if_pos c2] at hkk
      rw [if_neg (by (clear hT hVT hE hk hd h90 hl hc hx1 hfl hst hQ h01 e3 ha hpa eS hV hW pre0 stop hK hS hGN hT1 hE1 ha1 hbo hlo hq1 gx gq h71 h70 h17 hkc E1 E2 E3 pre1 X107 c2; lia)), hkk] at X107
      exact x_116 ha.1 (by (clear hT hVT hE hk hd h90 hl hc hx1 hfl hst hQ h01 hpa eS hV hW pre0 stop hK hS hGN hT1 hE1 ha1 hbo hlo hq1 gx gq h71 h70 h17 hkk hkc E1 E2 E3 pre1 X107 z8 c c2; omega)) (ER_fl hE1).1 (ER_fl hE1).2 X107
    · rw [if_neg c2]
      rw [if_neg c2] at hkk
      rw [if_pos (.inr hkk)] at X107; exact X107
end RG
end T137_rg
section T138_dc
/-! within a decide: small steps seen from its start -/
def qdL : List Nat := [6, 203, 204, 205, 206, 207, 208, 209, 210, 216, 217, 218, 219, 220, 221, 222, 223, 224, 225, 226, 227, 228, 229, 230, 231, 232, 233, 234]
def qdI : List Int := [12, 13, 14, 15, 75, 90, 102, 103, 104, 107, 108, 109, 112, 116, 118]
def QD (M M' : mm_) : Prop := Fr_ qdL M M' ∧ ∀ i : Int, i ∉ qdI → M' 6 i = M 6 i
theorem QD_rf [Inhabited gh_] {M : mm_} : QD M M := ⟨Fr_rf, fun _ _ => rfl⟩
theorem QD_tr [Inhabited gh_] {M M1 M2 : mm_} (h1 : QD M M1) (h2 : QD M1 M2) : QD M M2 := ⟨Fr_tr h1.1 h2.1, fun i a => (h2.2 i a).trans (h1.2 i a)⟩
theorem QD_u6 [Inhabited gh_] {M : mm_} {i v : Int} (h : i ∈ qdI) : QD M (up_ M 6 i v) := ⟨Fr_up Fr_rf (by decide), fun j hj => by rw [up_off (nm_i hj h)]⟩
theorem QD_ur [Inhabited gh_] {M : mm_} {r : Nat} {i v : Int} (h : r ∈ qdL) (h6 : r ≠ 6) : QD M (up_ M r i v) := ⟨Fr_up Fr_rf h, fun j hj => by rw [up_ne (fun e => h6 e.symm)]⟩
theorem QC_QD [Inhabited gh_] {M M' : mm_} (h : QC M M') : QD M M' := ⟨Fr_sub h.1 (by decide), fun i hi => h.2 i (fun e => hi (by revert e; unfold qcI qdI; simp only [List.mem_cons, List.not_mem_nil, or_false]; (clear h hi; lia)))⟩
theorem QD_QA [Inhabited gh_] {M M' : mm_} (h : QD M M') : QA M M' := ⟨Fr_sub h.1 (by decide), fun i hi => h.2 i (fun e => hi (by revert e; unfold qdI qaI; simp only [List.mem_cons, List.not_mem_nil, or_false]; (clear h hi; lia)))⟩
/-- cells of the base are kept -/
def KB (Mx Mq M N M' N' : mm_) : Prop := (∀ i, 0 ≤ i → i < Mx 5 3 → M' 142 i = M 142 i) ∧ (∀ r i, r ∈ opL → 0 ≤ i → i < Mq 6 75 → N' r i = N r i) ∧ (∀ i, 0 ≤ i → i < 3 * Mq 6 75 → N' 209 i = N 209 i) ∧ (∀ i, 0 ≤ i → i < Mq 6 104 → N' 227 i = N 227 i ∧ N' 228 i = N 228 i) ∧ (∀ r i, r ∈ rgR → 0 ≤ i → i < Mq 6 90 → N' r i = N r i) ∧ (∀ r i, r ∈ dsR → 0 ≤ i → i < Mq 6 102 → N' r i = N r i)
theorem KB_rf [Inhabited gh_] {Mx Mq M N : mm_} : KB Mx Mq M N M N := ⟨fun _ _ _ => rfl, fun _ _ _ _ _ => rfl, fun _ _ _ => rfl, fun _ _ _ => ⟨rfl, rfl⟩, fun _ _ _ _ _ => rfl, fun _ _ _ _ _ => rfl⟩
theorem KB_tr [Inhabited gh_] {Mx Mq M N M1 N1 M2 N2 : mm_} (h1 : KB Mx Mq M N M1 N1) (h2 : KB Mx Mq M1 N1 M2 N2) : KB Mx Mq M N M2 N2 := ⟨fun i a b => (h2.1 i a b).trans (h1.1 i a b), fun r i hr a b => (h2.2.1 r i hr a b).trans (h1.2.1 r i hr a b), fun i a b => (h2.2.2.1 i a b).trans (h1.2.2.1 i a b), fun i a b => ⟨(h2.2.2.2.1 i a b).1.trans (h1.2.2.2.1 i a b).1, (h2.2.2.2.1 i a b).2.trans (h1.2.2.2.1 i a b).2⟩, fun r i hr a b => (h2.2.2.2.2.1 r i hr a b).trans (h1.2.2.2.2.1 r i hr a b), fun r i hr a b => (h2.2.2.2.2.2 r i hr a b).trans (h1.2.2.2.2.2 r i hr a b)⟩
/-- from the start of a decide on: as PRC, its own row of the decides aside -/
def PRD [Inhabited gh_] (b F F' : Int) (Mx Mq M N : mm_) (a a' o o' me : Int) : Prop := PRC b F F' Mx Mq M (up_ N 6 102 (Mq 6 102)) a a' o o' me
section PD
variable {b F F' F2 : Int} {Mx Mq M N M' N' M1 N1 : mm_} {a a' a1 o o' o1 me e : Int}
theorem ER_102 [Inhabited gh_] {v : Int} (h : ER b F M N a o) : ER b F M (up_ N 6 102 v) a o := ER_Q h (up_off (by decide)) (up_off (by decide)) (up_off (by decide)) (up_off (by decide)) (up_off (by decide))
theorem ER_102' [Inhabited gh_] {v : Int} (h : ER b F M (up_ N 6 102 v) a o) : ER b F M N a o := ER_Q h (up_off (by decide)).symm (up_off (by decide)).symm (up_off (by decide)).symm (up_off (by decide)).symm (up_off (by decide)).symm
theorem PRD_E [Inhabited gh_] (h : PRD b F F' Mx Mq M N a a1 o o1 me) : ER b F' M N a1 o1 := ER_102' h.2.1
theorem PRD_X [Inhabited gh_] (h : PRD b F F' Mx Mq M N a a1 o o1 me) : XA Mx M := h.2.2.1.1
theorem PRD_Q [Inhabited gh_] (h : PRD b F F' Mx Mq M N a a1 o o1 me) : QA Mq N := by
  have := h.2.2.1.2
  exact ⟨fun r hr => by have q := this.1 r hr; rw [up_ne (fun e => hr (by rw [e]; decide))] at q; exact q, fun i hi => by have q := this.2 i hi; rw [up_off (nm_i hi (by decide))] at q; exact q⟩
theorem PRC_D [Inhabited gh_] (h : PRC b F F' Mx Mq M N a a1 o o1 me) : PRD b F F' Mx Mq M N a a1 o o1 me := by
  unfold PRD
  have e : up_ N 6 102 (Mq 6 102) = N := by
    funext r i
    by_cases c : r = 6
    · subst c
      by_cases ci : i = 102
      · rw [ci, up_at]; exact h.2.2.2.1.1.2.2.2.2.2.2.symm
      · rw [up_off ci]
    · rw [up_ne c]
  rw [e]; exact h
theorem PRD_C [Inhabited gh_] (h : PRD b F F' Mx Mq M N a a1 o o1 me) (h102 : N 6 102 = Mq 6 102) : PRC b F F' Mx Mq M N a a1 o o1 me := by
  unfold PRD at h
  have e : up_ N 6 102 (Mq 6 102) = N := by
    funext r i
    by_cases c : r = 6
    · subst c
      by_cases ci : i = 102
      · rw [ci, up_at]; exact h102.symm
      · rw [up_off ci]
    · rw [up_ne c]
  rw [e] at h; exact h
theorem PB_102 [Inhabited gh_] {u v : Int} (h : PB b M N M' N' a a') : PB b M (up_ N 6 102 u) M' (up_ N' 6 102 v) a a' := by
  unfold PB at *
  rw [up_off (by decide), up_off (by decide), up_off (by decide), up_off (by decide), up_off (by decide), up_off (by decide)]; exact h
/-- a part within -/
theorem PRC_dp [Inhabited gh_] (he : e ≤ N 6 102) (h : PRC b F F' M N M' N' a a1 o o1 me) : PRC b F F' M (up_ N 6 102 e) M' (up_ N' 6 102 e) a a1 o o1 me := by
  obtain ⟨f1, e1, ⟨x1, q1⟩, ⟨⟨c1, c2, c3, c4, c5, c6, c7⟩, d1, d2, d3, d4⟩, p, l1, m1, t1, t2, t3⟩ := h
  have r6 : ∀ (K : mm_) (r : Nat), r ≠ 6 → up_ K 6 102 e r = K r := fun K r h => up_ne h
  refine ⟨f1, ER_102 e1, ⟨x1, ⟨fun r hr => by rw [r6 _ r (fun e => hr (by rw [e]; decide)), r6 _ r (fun e => hr (by rw [e]; decide))]; exact q1.1 r hr, fun i hi => by rw [up_off (nm_i hi (by decide)), up_off (nm_i hi (by decide))]; exact q1.2 i hi⟩⟩, ⟨⟨c1, fun r i hr a b => ?_, fun i a b => ?_, fun i a b => ?_, fun r i hr a b => ?_, fun r i hr a b => ?_, by rw [up_at, up_at]⟩, d1, fun i hi => ?_, fun i hi => ?_, fun i hi => ?_⟩, PB_102 p, ?_, ?_, t1, t2, fun hb => ?_⟩
  · rw [up_off (by decide)] at b
    have h6 : r ≠ 6 := fun e => absurd hr (by rw [e]; decide)
    rw [r6 _ r h6, r6 _ r h6]; exact c2 r i hr a b
  · rw [up_off (by decide)] at b
    rw [r6 _ 209 (by decide), r6 _ 209 (by decide)]; exact c3 i a b
  · rw [up_off (by decide)] at b
    rw [r6 _ 227 (by decide), r6 _ 227 (by decide), r6 _ 228 (by decide), r6 _ 228 (by decide)]; exact c4 i a b
  · rw [up_off (by decide)] at b
    have h6 : r ≠ 6 := fun e => absurd hr (by rw [e]; decide)
    rw [r6 _ r h6, r6 _ r h6]; exact c5 r i hr a b
  · rw [up_at] at b
    have h6 : r ≠ 6 := fun e => absurd hr (by rw [e]; decide)
    rw [r6 _ r h6, r6 _ r h6]; exact c6 r i hr a (by omega)
  · rw [r6 _ 213 (by decide), r6 _ 213 (by decide), r6 _ 214 (by decide), r6 _ 214 (by decide)]; exact d2 i hi
  · rw [r6 _ 175 (by decide), r6 _ 175 (by decide)]; exact d3 i hi
  · rw [r6 _ 180 (by decide), r6 _ 180 (by decide), r6 _ 187 (by decide), r6 _ 187 (by decide), r6 _ 188 (by decide), r6 _ 188 (by decide), r6 _ 189 (by decide), r6 _ 189 (by decide)]; exact d4 i hi
  · unfold LBT LBG lbl9 nm9_ at l1 ⊢
    rw [r6 _ 175 (by decide), r6 _ 180 (by decide), r6 _ 187 (by decide), r6 _ 151 (by decide)]; exact l1
  · unfold MSK at m1 ⊢
    rw [r6 _ 213 (by decide), r6 _ 214 (by decide)]; exact m1
  · rw [r6 _ 175 (by decide), r6 _ 175 (by decide), r6 _ 180 (by decide), r6 _ 180 (by decide), r6 _ 187 (by decide), r6 _ 187 (by decide), r6 _ 189 (by decide)]; exact t3 hb
theorem PRD_tr [Inhabited gh_] (h53 : 0 ≤ Mq 6 75) (hd : Mq 6 102 ≤ N 6 102) (h1 : PRD b F F' Mx Mq M N a a1 o o1 me) (h2 : PRC b F' F2 M N M' N' a1 a' o1 o' me) : PRD b F F2 Mx Mq M' N' a a' o o' me := PRC_tr h53 h1 (PRC_dp hd h2)
/-- a small step -/
theorem PRD_s [Inhabited gh_] (h : PRD b F F' Mx Mq M N a a1 o o1 me) (hE : ER b F' M' N' a' o') (hx : XF M M') (hq : QD N N') (hk : KB Mx Mq M N M' N') (hb : PB b Mx Mq M' N' a a') (ha : a1 ≤ a') : PRD b F F' Mx Mq M' N' a a' o o' me := by
  have hX := PRD_X h
  have hQ := PRD_Q h
  unfold PRD at *
  obtain ⟨f1, e1, ⟨x1, q1⟩, ⟨⟨c1, c2, c3, c4, c5, c6, c7⟩, d1, d2, d3, d4⟩, p, l1, m1, t1, t2, t3⟩ := h
  obtain ⟨k1, k2, k3, k4, k5, k6⟩ := hk
  have r6 : ∀ (K : mm_) (r : Nat), r ≠ 6 → up_ K 6 102 (Mq 6 102) r = K r := fun K r h => up_ne h
  have xr : ∀ r : Nat, r ≠ 1 → r ≠ 5 → r ≠ 142 → M' r = M r := fun r a b c => XF_70 hx a b c
  have i1 : ∀ i : Int, i = 18 ∨ i = 19 ∨ i = 21 ∨ i = 23 ∨ i = 29 → M' 1 i = M 1 i := fun i hi => hx.2.1 i (by (clear hE hx hq hb ha hX hQ f1 e1 x1 q1 c1 c2 c3 c4 c5 c6 c7 d1 d2 d3 d4 p l1 m1 t1 t2 t3 k1 k2 k3 k4 k5 k6 r6 xr; lia)) (by (clear hE hx hq hb ha hX hQ f1 e1 x1 q1 c1 c2 c3 c4 c5 c6 c7 d1 d2 d3 d4 p l1 m1 t1 t2 t3 k1 k2 k3 k4 k5 k6 r6 xr; lia)) (by (clear hE hx hq hb ha hX hQ f1 e1 x1 q1 c1 c2 c3 c4 c5 c6 c7 d1 d2 d3 d4 p l1 m1 t1 t2 t3 k1 k2 k3 k4 k5 k6 r6 xr; lia)) (by (clear hE hx hq hb ha hX hQ f1 e1 x1 q1 c1 c2 c3 c4 c5 c6 c7 d1 d2 d3 d4 p l1 m1 t1 t2 t3 k1 k2 k3 k4 k5 k6 r6 xr; lia)) (by (clear hE hx hq hb ha hX hQ f1 e1 x1 q1 c1 c2 c3 c4 c5 c6 c7 d1 d2 d3 d4 p l1 m1 t1 t2 t3 k1 k2 k3 k4 k5 k6 r6 xr; lia))
  have qr : ∀ r : Nat, r ∉ qdL → N' r = N r := fun r hr => hq.1 r hr
  have lc : lc_ b M' = lc_ b M := by unfold lc_; rw [xr 128 (by decide) (by decide) (by decide), i1 18 (by omega), i1 19 (by omega)]
  have e18 : M 1 18 = Mx 1 18 := hX.2.1 18 (by decide)
  have e29 : M 1 29 = Mx 1 29 := hX.2.1 29 (by decide)
  refine ⟨f1, ER_102 hE, ⟨XA_tr x1 (XF_XA hx), QA_tr hQ (QA_tr (QD_QA hq) (QA_u6 (by decide)))⟩, ⟨⟨fun i a b => (k1 i a b).trans (c1 i a b), fun r i hr a b => ?_, fun i a b => ?_, fun i a b => ?_, fun r i hr a b => ?_, fun r i hr a b => ?_, by rw [up_at]⟩, fun i hi => ?_, fun i hi => ?_, fun i hi => ?_, fun i hi => ?_⟩, by unfold PB at *; rw [up_off (by decide), up_off (by decide), up_off (by decide)]; exact hb, ?_, ?_, by omega, fun hb => by rw [i1 19 (by omega)]; exact t2 hb, fun hb => ?_⟩
  · have h6 : r ≠ 6 := fun e => absurd hr (by rw [e]; decide)
    have q := c2 r i hr a b
    rw [r6 _ r h6] at q ⊢; exact (k2 r i hr a b).trans q
  · have q := c3 i a b
    rw [r6 _ 209 (by decide)] at q ⊢; exact (k3 i a b).trans q
  · have q := c4 i a b
    rw [r6 _ 227 (by decide), r6 _ 228 (by decide)] at q ⊢; exact ⟨(k4 i a b).1.trans q.1, (k4 i a b).2.trans q.2⟩
  · have h6 : r ≠ 6 := fun e => absurd hr (by rw [e]; decide)
    have q := c5 r i hr a b
    rw [r6 _ r h6] at q ⊢; exact (k5 r i hr a b).trans q
  · have h6 : r ≠ 6 := fun e => absurd hr (by rw [e]; decide)
    have q := c6 r i hr a b
    rw [r6 _ r h6] at q ⊢; exact (k6 r i hr a b).trans q
  · rw [xr 63 (by decide) (by decide) (by decide), xr 64 (by decide) (by decide) (by decide), xr 65 (by decide) (by decide) (by decide)]; exact d1 i hi
  · have q := d2 i hi
    rw [r6 _ 213 (by decide), r6 _ 214 (by decide)] at q ⊢
    rw [qr 213 (by decide), qr 214 (by decide)]; exact q
  · have q := d3 i hi
    rw [r6 _ 175 (by decide)] at q ⊢
    rw [xr 128 (by decide) (by decide) (by decide), qr 175 (by decide)]; exact q
  · have q := d4 i hi
    rw [r6 _ 180 (by decide), r6 _ 187 (by decide), r6 _ 188 (by decide), r6 _ 189 (by decide)] at q ⊢
    rw [xr 62 (by decide) (by decide) (by decide), xr 129 (by decide) (by decide) (by decide), qr 180 (by decide), qr 187 (by decide), qr 188 (by decide), qr 189 (by decide)]; exact q
  · refine LBT_c l1 (XF_XA hx) ⟨fun r hr => ?_, fun i hi => ?_⟩ (xr 62 (by decide) (by decide) (by decide)) (xr 128 (by decide) (by decide) (by decide)) ?_ ?_ ?_ ha
    · rw [r6 _ r (fun e => hr (by rw [e]; decide)), r6 _ r (fun e => hr (by rw [e]; decide))]; exact (QD_QA hq).1 r hr
    · rw [up_off (nm_i hi (by decide)), up_off (nm_i hi (by decide))]; exact (QD_QA hq).2 i hi
    · rw [r6 _ 175 (by decide), r6 _ 175 (by decide)]; exact qr 175 (by decide)
    · rw [r6 _ 180 (by decide), r6 _ 180 (by decide)]; exact qr 180 (by decide)
    · rw [r6 _ 187 (by decide), r6 _ 187 (by decide)]; exact qr 187 (by decide)
  · unfold MSK at *
    rw [r6 _ 213 (by decide), r6 _ 214 (by decide)] at m1 ⊢
    rw [i1 29 (by omega), i1 21 (by omega), i1 23 (by omega), i1 18 (by omega), xr 123 (by decide) (by decide) (by decide), xr 63 (by decide) (by decide) (by decide), xr 64 (by decide) (by decide) (by decide), xr 65 (by decide) (by decide) (by decide), qr 213 (by decide), qr 214 (by decide)]; exact m1
  · have q := t3 hb
    rw [r6 _ 175 (by decide), r6 _ 180 (by decide), r6 _ 187 (by decide), r6 _ 189 (by decide)] at q ⊢
    rw [xr 62 (by decide) (by decide) (by decide), xr 128 (by decide) (by decide) (by decide), xr 64 (by decide) (by decide) (by decide), qr 175 (by decide), qr 180 (by decide), qr 187 (by decide), qr 189 (by decide), i1 19 (by omega)]; exact q
theorem PRD_PB [Inhabited gh_] (h : PRD b F F' Mx Mq M N a a1 o o1 me) : PB b Mx Mq M N a a1 := by
  have p := h.2.2.2.2.1
  unfold PB at *
  rw [up_off (by decide), up_off (by decide), up_off (by decide)] at p; exact p
/-- the state within, for parts -/
theorem PS_D [Inhabited gh_] (hp : PS b F Mx Mq a o me) (h : PRD b F F' Mx Mq M N a a1 o o1 me) (ho : o ≤ o1) (hd : 0 ≤ N 6 102 ∧ N 6 102 ≤ o1) : PS b F' M N a1 o1 me := by
  have q := PS_tr hp h ho
  obtain ⟨⟨t1, t2, t3, t4, t5, t6⟩, g, l, s, ⟨u1, u2, u3⟩, w, r, d, m, n⟩ := q
  have r6 : ∀ (r : Nat), r ≠ 6 → up_ N 6 102 (Mq 6 102) r = N r := fun r h => up_ne h
  have qa : QA (up_ N 6 102 (Mq 6 102)) N := ⟨fun r hr => (r6 r (fun e => hr (by rw [e]; decide))).symm, fun i hi => (up_off (nm_i hi (by decide))).symm⟩
  refine ⟨⟨Tks_a XA_rf qa t1, VT_a XA_rf qa t2, ER_102' t3, by rw [up_off (by decide)] at t4; exact t4, by rw [up_off (by decide)] at t5; exact t5, t6⟩, GT_a XA_rf qa g, LBT_c l XA_rf qa rfl rfl (r6 175 (by decide)).symm (r6 180 (by decide)).symm (r6 187 (by decide)).symm (Int.le_refl _), stt9_a XA_rf qa s, ⟨u1, u2, by rw [r6 215 (by decide)] at u3; exact u3⟩, w, by rw [up_off (by decide)] at r; exact r, hd, ?_, n⟩
  unfold MSK at *
  rw [r6 213 (by decide), r6 214 (by decide)] at m; exact m
end PD
end T138_dc
