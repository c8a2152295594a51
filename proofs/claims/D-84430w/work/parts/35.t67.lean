section T67_syn
/-! where an e ends, by the kinds of tokens alone -/
/-- a token is passed -/
def gS (a : Int) : Option Int := if a < 1200 then some (a + 1) else none
def tS (κ : Int → Int) (k a : Int) : Option Int := if κ a = k then gS a else none
/-- 0 e, 1 con, 2 rel, 3 sum, 4 prod, 5 un, 6 first; 7 .. 10 the rest of 0, 1, 3, 4 behind their first part -/
def eS (κ : Int → Int) : Nat → Nat → Int → Int → Option Int
  | 0, _, _, _ => none
  | n + 1, 0, o, a => (eS κ n 1 o a).bind (eS κ n 7 o)
  | n + 1, 1, o, a => (eS κ n 2 o a).bind (eS κ n 8 o)
  | n + 1, 2, o, a => (eS κ n 3 o a).bind fun a1 => if lv_ (κ a1) = 3 then (gS a1).bind (eS κ n 3 o) else some a1
  | n + 1, 3, o, a => (eS κ n 4 o a).bind (eS κ n 9 o)
  | n + 1, 4, o, a => (eS κ n 5 o a).bind (eS κ n 10 o)
  | n + 1, 5, o, a => if κ a = 245 ∨ κ a = 41 then (if o = 12 then none else (gS a).bind (eS κ n 5 (o + 1))) else eS κ n 6 o a
  | n + 1, 6, o, a => if κ a = 101 ∨ 31 ≤ κ a ∧ κ a ≤ 40 ∧ κ a ≠ 39 then gS a else if κ a = 39 then (gS a).bind (tS κ 100)
      else if κ a = 100 then (gS a).bind fun a1 => if κ a1 = 291 then (if o = 12 then none else (gS a1).bind fun a2 => (eS κ n 0 (o + 1) a2).bind (tS κ 293)) else some a1
      else if κ a = 240 then (if o = 12 then none else (gS a).bind fun a1 => (eS κ n 0 (o + 1) a1).bind (tS κ 241)) else none
  | n + 1, 7, o, a => if lv_ (κ a) = 1 then (gS a).bind fun a1 => (eS κ n 1 o a1).bind (eS κ n 7 o) else some a
  | n + 1, 8, o, a => if lv_ (κ a) = 2 then (gS a).bind fun a1 => (eS κ n 2 o a1).bind (eS κ n 8 o) else some a
  | n + 1, 9, o, a => if lv_ (κ a) = 4 then (gS a).bind fun a1 => (eS κ n 4 o a1).bind (eS κ n 9 o) else some a
  | n + 1, 10, o, a => if lv_ (κ a) = 5 then (gS a).bind fun a1 => (eS κ n 5 o a1).bind (eS κ n 10 o) else some a
  | _ + 1, _ + 11, _, _ => none
theorem gS_s {a r : Int} (h : gS a = some r) : r = a + 1 ∧ a < 1200 := by
  unfold gS at h
  split at h
  · rename_i h1; cases h; exact ⟨rfl, h1⟩
  · cases h
theorem tS_s {κ : Int → Int} {k a r : Int} (h : tS κ k a = some r) : κ a = k ∧ r = a + 1 ∧ a < 1200 := by
  unfold tS at h
  split at h
  · rename_i h1; exact ⟨h1, gS_s h⟩
  · cases h
/-- an e takes at least one token, and stays within -/
theorem eS_gt (κ : Int → Int) : ∀ (n nt : Nat) (o a r : Int), nt ≤ 10 → eS κ n nt o a = some r → a ≤ 1200 → (if nt ≤ 6 then a + 1 ≤ r else a ≤ r) ∧ r ≤ 1200
  | 0, _, _, _, _, _, h, _ => by simp only [eS] at h; cases h
  | n + 1, nt, o, a, r, hnt, h, ha => by
    have two : ∀ (x y : Nat), x ≤ 6 → y ≤ 10 → 7 ≤ y → (eS κ n x o a).bind (eS κ n y o) = some r → a + 1 ≤ r ∧ r ≤ 1200 := by
      intro x y hx hy hy7 h
      cases h1 : eS κ n x o a with
      | none => rw [h1] at h; cases h
      | some a1 =>
        rw [h1] at h
        have i1 := eS_gt κ n x o a a1 (by omega) h1 ha
        rw [if_pos hx] at i1
        have i2 := eS_gt κ n y o a1 r hy h i1.2
        rw [if_neg (by omega)] at i2
        omega
    have loop : ∀ (x y : Nat), x ≤ 6 → y ≤ 10 → 7 ≤ y → ((gS a).bind fun a1 => (eS κ n x o a1).bind (eS κ n y o)) = some r → a ≤ r ∧ r ≤ 1200 := by
      intro x y hx hy hy7 h
      cases h0 : gS a with
      | none => rw [h0] at h; cases h
      | some a0 =>
        rw [h0] at h
        have g := gS_s h0
        change (eS κ n x o a0).bind (eS κ n y o) = some r at h
        cases h1 : eS κ n x o a0 with
        | none => rw [h1] at h; cases h
        | some a1 =>
          rw [h1] at h
          have i1 := eS_gt κ n x o a0 a1 (by omega) h1 (by omega)
          rw [if_pos hx] at i1
          have i2 := eS_gt κ n y o a1 r hy h i1.2
          rw [if_neg (by omega)] at i2
          omega
    match nt, hnt, h with
    | 0, _, h => rw [if_pos (by omega)]; simp only [eS] at h; exact two 1 7 (by omega) (by omega) (by omega) h
    | 1, _, h => rw [if_pos (by omega)]; simp only [eS] at h; exact two 2 8 (by omega) (by omega) (by omega) h
    | 2, _, h =>
      rw [if_pos (by omega)]
      simp only [eS] at h
      cases h1 : eS κ n 3 o a with
      | none => rw [h1] at h; cases h
      | some a1 =>
        rw [h1] at h
        have i1 := eS_gt κ n 3 o a a1 (by omega) h1 ha
        rw [if_pos (by omega)] at i1
        change (if lv_ (κ a1) = 3 then (gS a1).bind (eS κ n 3 o) else some a1) = some r at h
        split at h
        · cases h2 : gS a1 with
          | none => rw [h2] at h; cases h
          | some a2 =>
            rw [h2] at h
            have g := gS_s h2
            have i2 := eS_gt κ n 3 o a2 r (by omega) h (by omega)
            rw [if_pos (by omega)] at i2
            omega
        · cases h; omega
    | 3, _, h => rw [if_pos (by omega)]; simp only [eS] at h; exact two 4 9 (by omega) (by omega) (by omega) h
    | 4, _, h => rw [if_pos (by omega)]; simp only [eS] at h; exact two 5 10 (by omega) (by omega) (by omega) h
    | 5, _, h =>
      rw [if_pos (by omega)]
      simp only [eS] at h
      split at h
      · split at h
        · cases h
        · cases h2 : gS a with
          | none => rw [h2] at h; cases h
          | some a2 =>
            rw [h2] at h
            have g := gS_s h2
            have i2 := eS_gt κ n 5 (o + 1) a2 r (by omega) h (by omega)
            rw [if_pos (by omega)] at i2
            omega
      · have i2 := eS_gt κ n 6 o a r (by omega) h ha
        rw [if_pos (by omega)] at i2
        exact i2
    | 6, _, h =>
      rw [if_pos (by omega)]
      simp only [eS] at h
      split at h
      · have := gS_s h; omega
      · split at h
        · cases h2 : gS a with
          | none => rw [h2] at h; cases h
          | some a2 =>
            rw [h2] at h
            have g := gS_s h2
            have := tS_s h
            omega
        · split at h
          · cases h2 : gS a with
            | none => rw [h2] at h; cases h
            | some a2 =>
              rw [h2] at h
              have g := gS_s h2
              change (if κ a2 = 291 then (if o = 12 then none else (gS a2).bind fun a2 => (eS κ n 0 (o + 1) a2).bind (tS κ 293)) else some a2) = some r at h
              split at h
              · split at h
                · cases h
                · cases h3 : gS a2 with
                  | none => rw [h3] at h; cases h
                  | some a3 =>
                    rw [h3] at h
                    have g3 := gS_s h3
                    change (eS κ n 0 (o + 1) a3).bind (tS κ 293) = some r at h
                    cases h4 : eS κ n 0 (o + 1) a3 with
                    | none => rw [h4] at h; cases h
                    | some a4 =>
                      rw [h4] at h
                      have i2 := eS_gt κ n 0 (o + 1) a3 a4 (by omega) h4 (by omega)
                      rw [if_pos (by omega)] at i2
                      have := tS_s h
                      omega
              · cases h; omega
          · split at h
            · split at h
              · cases h
              · cases h3 : gS a with
                | none => rw [h3] at h; cases h
                | some a3 =>
                  rw [h3] at h
                  have g3 := gS_s h3
                  change (eS κ n 0 (o + 1) a3).bind (tS κ 241) = some r at h
                  cases h4 : eS κ n 0 (o + 1) a3 with
                  | none => rw [h4] at h; cases h
                  | some a4 =>
                    rw [h4] at h
                    have i2 := eS_gt κ n 0 (o + 1) a3 a4 (by omega) h4 (by omega)
                    rw [if_pos (by omega)] at i2
                    have := tS_s h
                    omega
            · cases h
    | 7, _, h =>
      rw [if_neg (by omega)]
      simp only [eS] at h
      split at h
      · exact loop 1 7 (by omega) (by omega) (by omega) h
      · cases h; omega
    | 8, _, h =>
      rw [if_neg (by omega)]
      simp only [eS] at h
      split at h
      · exact loop 2 8 (by omega) (by omega) (by omega) h
      · cases h; omega
    | 9, _, h =>
      rw [if_neg (by omega)]
      simp only [eS] at h
      split at h
      · exact loop 4 9 (by omega) (by omega) (by omega) h
      · cases h; omega
    | 10, _, h =>
      rw [if_neg (by omega)]
      simp only [eS] at h
      split at h
      · exact loop 5 10 (by omega) (by omega) (by omega) h
      · cases h; omega
    | k + 11, hk, _ => omega
/-- how much there may be to do -/
def mS (nt : Nat) (a : Int) : Int := 8 * (1201 - a) + (if nt ≤ 6 then 6 - (nt : Int) else 7)
theorem bd_cg {x y : Option Int} {g g' : Int → Option Int} (h : x = y) (hg : ∀ r, x = some r → g r = g' r) : x.bind g = y.bind g' := by
  subst h
  cases x with
  | none => rfl
  | some r => exact hg r rfl
/-- more to do than there is does not matter -/
theorem eS_in (κ : Int → Int) : ∀ (n m nt : Nat) (o a : Int), nt ≤ 10 → 0 ≤ a → a ≤ 1200 → mS nt a < n → mS nt a < m → eS κ n nt o a = eS κ m nt o a
  | 0, _, nt, _, a, _, _, _, h, _ => by unfold mS at h; split at h <;> omega
  | _ + 1, 0, nt, _, a, _, _, _, _, h => by unfold mS at h; split at h <;> omega
  | n + 1, m + 1, nt, o, a, hnt, h0, ha, hn, hm => by
    have sub : ∀ (nt' : Nat) (o' a' : Int), nt' ≤ 10 → a ≤ a' → a' ≤ 1200 → mS nt' a' < mS nt a → eS κ n nt' o' a' = eS κ m nt' o' a' := fun nt' o' a' h1 h2 h3 h4 => eS_in κ n m nt' o' a' h1 (by omega) h3 (by omega) (by omega)
    have gt : ∀ (nt' : Nat) (o' a' r : Int), nt' ≤ 6 → a' ≤ 1200 → eS κ n nt' o' a' = some r → a' + 1 ≤ r ∧ r ≤ 1200 := by
      intro nt' o' a' r h1 h2 h3
      have := eS_gt κ n nt' o' a' r (by omega) h3 h2
      rw [if_pos h1] at this
      exact this
    have two : ∀ (x y : Nat), x ≤ 6 → nt < x → 7 ≤ y → y ≤ 10 → nt ≤ 6 → (eS κ n x o a).bind (eS κ n y o) = (eS κ m x o a).bind (eS κ m y o) := by
      intro x y hx hnx hy hy2 hn6
      refine bd_cg (sub x o a (by omega) (Int.le_refl _) ha (by unfold mS; rw [if_pos hx, if_pos hn6]; omega)) fun r hr => ?_
      have := gt x o a r hx ha hr
      exact sub y o r hy2 (by omega) this.2 (by unfold mS; rw [if_neg (by omega), if_pos hn6]; omega)
    have loop : ∀ (x y : Nat), x ≤ 6 → 7 ≤ y → y ≤ 10 → 7 ≤ nt → ((gS a).bind fun a1 => (eS κ n x o a1).bind (eS κ n y o)) = (gS a).bind fun a1 => (eS κ m x o a1).bind (eS κ m y o) := by
      intro x y hx hy hy2 hn7
      refine bd_cg rfl fun a1 h1 => ?_
      have g := gS_s h1
      refine bd_cg (sub x o a1 (by omega) (by omega) (by omega) (by unfold mS; rw [if_pos hx, if_neg (by omega)]; omega)) fun r hr => ?_
      have := gt x o a1 r hx (by omega) hr
      exact sub y o r hy2 (by omega) this.2 (by unfold mS; rw [if_neg (by omega), if_neg (by omega)]; omega)
    match nt, hnt, hn, hm, sub, two, loop with
    | 0, _, _, _, _, two, _ => simp only [eS]; exact two 1 7 (by omega) (by omega) (by omega) (by omega) (by omega)
    | 1, _, _, _, _, two, _ => simp only [eS]; exact two 2 8 (by omega) (by omega) (by omega) (by omega) (by omega)
    | 2, _, _, _, sub, _, _ =>
      simp only [eS]
      refine bd_cg (sub 3 o a (by omega) (Int.le_refl _) ha (by unfold mS; rw [if_pos (by omega), if_pos (by omega)]; omega)) fun r hr => ?_
      have i1 := gt 3 o a r (by omega) ha hr
      by_cases c : lv_ (κ r) = 3
      · rw [if_pos c, if_pos c]
        refine bd_cg rfl fun a1 h1 => ?_
        have g := gS_s h1
        exact sub 3 o a1 (by omega) (by omega) (by omega) (by unfold mS; rw [if_pos (by omega), if_pos (by omega)]; omega)
      · rw [if_neg c, if_neg c]
    | 3, _, _, _, _, two, _ => simp only [eS]; exact two 4 9 (by omega) (by omega) (by omega) (by omega) (by omega)
    | 4, _, _, _, _, two, _ => simp only [eS]; exact two 5 10 (by omega) (by omega) (by omega) (by omega) (by omega)
    | 5, _, _, _, sub, _, _ =>
      simp only [eS]
      by_cases c : κ a = 245 ∨ κ a = 41
      · rw [if_pos c, if_pos c]
        by_cases c2 : o = 12
        · rw [if_pos c2, if_pos c2]
        · rw [if_neg c2, if_neg c2]
          refine bd_cg rfl fun a1 h1 => ?_
          have g := gS_s h1
          exact sub 5 (o + 1) a1 (by omega) (by omega) (by omega) (by unfold mS; split <;> omega)
      · rw [if_neg c, if_neg c]
        exact sub 6 o a (by omega) (Int.le_refl _) ha (by unfold mS; rw [if_pos (by omega), if_pos (by omega)]; omega)
    | 6, _, _, _, sub, _, _ =>
      simp only [eS]
      by_cases c1 : κ a = 101 ∨ 31 ≤ κ a ∧ κ a ≤ 40 ∧ κ a ≠ 39
      · rw [if_pos c1, if_pos c1]
      · rw [if_neg c1, if_neg c1]
        by_cases c2 : κ a = 39
        · rw [if_pos c2, if_pos c2]
        · rw [if_neg c2, if_neg c2]
          by_cases c3 : κ a = 100
          · rw [if_pos c3, if_pos c3]
            refine bd_cg rfl fun a1 h1 => ?_
            have g := gS_s h1
            by_cases c4 : κ a1 = 291
            · rw [if_pos c4, if_pos c4]
              by_cases c5 : o = 12
              · rw [if_pos c5, if_pos c5]
              · rw [if_neg c5, if_neg c5]
                refine bd_cg rfl fun a2 h2 => ?_
                have g2 := gS_s h2
                refine bd_cg ?_ fun _ _ => rfl
                exact sub 0 (o + 1) a2 (by omega) (by omega) (by omega) (by unfold mS; rw [if_pos (by omega), if_pos (by omega)]; omega)
            · rw [if_neg c4, if_neg c4]
          · rw [if_neg c3, if_neg c3]
            by_cases c4 : κ a = 240
            · rw [if_pos c4, if_pos c4]
              by_cases c5 : o = 12
              · rw [if_pos c5, if_pos c5]
              · rw [if_neg c5, if_neg c5]
                refine bd_cg rfl fun a2 h2 => ?_
                have g2 := gS_s h2
                refine bd_cg ?_ fun _ _ => rfl
                exact sub 0 (o + 1) a2 (by omega) (by omega) (by omega) (by unfold mS; rw [if_pos (by omega), if_pos (by omega)]; omega)
            · rw [if_neg c4, if_neg c4]
    | 7, _, _, _, _, _, loop =>
      simp only [eS]; by_cases c : lv_ (κ a) = 1
      · rw [if_pos c, if_pos c]; exact loop 1 7 (by omega) (by omega) (by omega) (by omega)
      · rw [if_neg c, if_neg c]
    | 8, _, _, _, _, _, loop =>
      simp only [eS]; by_cases c : lv_ (κ a) = 2
      · rw [if_pos c, if_pos c]; exact loop 2 8 (by omega) (by omega) (by omega) (by omega)
      · rw [if_neg c, if_neg c]
    | 9, _, _, _, _, _, loop =>
      simp only [eS]; by_cases c : lv_ (κ a) = 4
      · rw [if_pos c, if_pos c]; exact loop 4 9 (by omega) (by omega) (by omega) (by omega)
      · rw [if_neg c, if_neg c]
    | 10, _, _, _, _, _, loop =>
      simp only [eS]; by_cases c : lv_ (κ a) = 5
      · rw [if_pos c, if_pos c]; exact loop 5 10 (by omega) (by omega) (by omega) (by omega)
      · rw [if_neg c, if_neg c]
    | k + 11, hk, _, _, _, _, _ => omega
section EQ
variable {κ : Int → Int} {n : Nat} {o a : Int}
theorem eS_0 : eS κ (n + 1) 0 o a = (eS κ n 1 o a).bind (eS κ n 7 o) := by simp only [eS]
theorem eS_1 : eS κ (n + 1) 1 o a = (eS κ n 2 o a).bind (eS κ n 8 o) := by simp only [eS]
theorem eS_2 : eS κ (n + 1) 2 o a = (eS κ n 3 o a).bind fun a1 => if lv_ (κ a1) = 3 then (gS a1).bind (eS κ n 3 o) else some a1 := by simp only [eS]
theorem eS_3 : eS κ (n + 1) 3 o a = (eS κ n 4 o a).bind (eS κ n 9 o) := by simp only [eS]
theorem eS_4 : eS κ (n + 1) 4 o a = (eS κ n 5 o a).bind (eS κ n 10 o) := by simp only [eS]
theorem eS_5 : eS κ (n + 1) 5 o a = if κ a = 245 ∨ κ a = 41 then (if o = 12 then none else (gS a).bind (eS κ n 5 (o + 1))) else eS κ n 6 o a := by simp only [eS]
theorem eS_6 : eS κ (n + 1) 6 o a = if κ a = 101 ∨ 31 ≤ κ a ∧ κ a ≤ 40 ∧ κ a ≠ 39 then gS a else if κ a = 39 then (gS a).bind (tS κ 100)
      else if κ a = 100 then (gS a).bind fun a1 => if κ a1 = 291 then (if o = 12 then none else (gS a1).bind fun a2 => (eS κ n 0 (o + 1) a2).bind (tS κ 293)) else some a1
      else if κ a = 240 then (if o = 12 then none else (gS a).bind fun a1 => (eS κ n 0 (o + 1) a1).bind (tS κ 241)) else none := by simp only [eS]
theorem eS_7 : eS κ (n + 1) 7 o a = if lv_ (κ a) = 1 then (gS a).bind fun a1 => (eS κ n 1 o a1).bind (eS κ n 7 o) else some a := by simp only [eS]
theorem eS_8 : eS κ (n + 1) 8 o a = if lv_ (κ a) = 2 then (gS a).bind fun a1 => (eS κ n 2 o a1).bind (eS κ n 8 o) else some a := by simp only [eS]
theorem eS_9 : eS κ (n + 1) 9 o a = if lv_ (κ a) = 4 then (gS a).bind fun a1 => (eS κ n 4 o a1).bind (eS κ n 9 o) else some a := by simp only [eS]
theorem eS_10 : eS κ (n + 1) 10 o a = if lv_ (κ a) = 5 then (gS a).bind fun a1 => (eS κ n 5 o a1).bind (eS κ n 10 o) else some a := by simp only [eS]
end EQ
/-- where an e ends -/
def ES (κ : Int → Int) (nt : Nat) (o a : Int) : Option Int := eS κ 9700 nt o a
theorem ES_u {κ : Int → Int} {nt : Nat} {o a : Int} (h : nt ≤ 10) (h0 : 0 ≤ a) (h1 : a ≤ 1200) : ES κ nt o a = eS κ (9700 + 1) nt o a := eS_in κ _ _ nt o a h h0 h1 (by unfold mS; split <;> omega) (by unfold mS; split <;> omega)
theorem ES_gt {κ : Int → Int} {nt : Nat} {o a r : Int} (hn : nt ≤ 6) (h : ES κ nt o a = some r) (ha : a ≤ 1200) : a + 1 ≤ r ∧ r ≤ 1200 := by
  have := eS_gt κ 9700 nt o a r (by omega) h ha
  rw [if_pos hn] at this
  exact this
theorem ES_ge {κ : Int → Int} {nt : Nat} {o a r : Int} (hn : nt ≤ 10) (h : ES κ nt o a = some r) (ha : a ≤ 1200) : a ≤ r ∧ r ≤ 1200 := by
  have := eS_gt κ 9700 nt o a r hn h ha
  split at this <;> omega
section ES
variable {κ : Int → Int} {o a : Int}
theorem ES_0 (h0 : 0 ≤ a) (h1 : a ≤ 1200) : ES κ 0 o a = (ES κ 1 o a).bind (ES κ 7 o) := by rw [ES_u (by omega) h0 h1, eS_0]; rfl
theorem ES_1 (h0 : 0 ≤ a) (h1 : a ≤ 1200) : ES κ 1 o a = (ES κ 2 o a).bind (ES κ 8 o) := by rw [ES_u (by omega) h0 h1, eS_1]; rfl
theorem ES_2 (h0 : 0 ≤ a) (h1 : a ≤ 1200) : ES κ 2 o a = (ES κ 3 o a).bind fun a1 => if lv_ (κ a1) = 3 then (gS a1).bind (ES κ 3 o) else some a1 := by rw [ES_u (by omega) h0 h1, eS_2]; rfl
theorem ES_3 (h0 : 0 ≤ a) (h1 : a ≤ 1200) : ES κ 3 o a = (ES κ 4 o a).bind (ES κ 9 o) := by rw [ES_u (by omega) h0 h1, eS_3]; rfl
theorem ES_4 (h0 : 0 ≤ a) (h1 : a ≤ 1200) : ES κ 4 o a = (ES κ 5 o a).bind (ES κ 10 o) := by rw [ES_u (by omega) h0 h1, eS_4]; rfl
theorem ES_5 (h0 : 0 ≤ a) (h1 : a ≤ 1200) : ES κ 5 o a = if κ a = 245 ∨ κ a = 41 then (if o = 12 then none else (gS a).bind (ES κ 5 (o + 1))) else ES κ 6 o a := by rw [ES_u (by omega) h0 h1, eS_5]; rfl
theorem ES_6 (h0 : 0 ≤ a) (h1 : a ≤ 1200) : ES κ 6 o a = if κ a = 101 ∨ 31 ≤ κ a ∧ κ a ≤ 40 ∧ κ a ≠ 39 then gS a else if κ a = 39 then (gS a).bind (tS κ 100)
      else if κ a = 100 then (gS a).bind fun a1 => if κ a1 = 291 then (if o = 12 then none else (gS a1).bind fun a2 => (ES κ 0 (o + 1) a2).bind (tS κ 293)) else some a1
      else if κ a = 240 then (if o = 12 then none else (gS a).bind fun a1 => (ES κ 0 (o + 1) a1).bind (tS κ 241)) else none := by rw [ES_u (by omega) h0 h1, eS_6]; rfl
theorem ES_7 (h0 : 0 ≤ a) (h1 : a ≤ 1200) : ES κ 7 o a = if lv_ (κ a) = 1 then (gS a).bind fun a1 => (ES κ 1 o a1).bind (ES κ 7 o) else some a := by rw [ES_u (by omega) h0 h1, eS_7]; rfl
theorem ES_8 (h0 : 0 ≤ a) (h1 : a ≤ 1200) : ES κ 8 o a = if lv_ (κ a) = 2 then (gS a).bind fun a1 => (ES κ 2 o a1).bind (ES κ 8 o) else some a := by rw [ES_u (by omega) h0 h1, eS_8]; rfl
theorem ES_9 (h0 : 0 ≤ a) (h1 : a ≤ 1200) : ES κ 9 o a = if lv_ (κ a) = 4 then (gS a).bind fun a1 => (ES κ 4 o a1).bind (ES κ 9 o) else some a := by rw [ES_u (by omega) h0 h1, eS_9]; rfl
theorem ES_10 (h0 : 0 ≤ a) (h1 : a ≤ 1200) : ES κ 10 o a = if lv_ (κ a) = 5 then (gS a).bind fun a1 => (ES κ 5 o a1).bind (ES κ 10 o) else some a := by rw [ES_u (by omega) h0 h1, eS_10]; rfl
end ES
end T67_syn
section T68_er
/-- numbers that a proof may choose: room for notes; how early Q's fault lies at least, by the labels passed; X's fault key where a body, a head begins (0: any) -/
def gh_ : Type := Nat × (Int → Int) × Int × Int
def gg_ [Inhabited gh_] : Nat := (default : gh_).1
def bb_ [Inhabited gh_] : Int → Int := (default : gh_).2.1
def ff_ [Inhabited gh_] : Int := (default : gh_).2.2.1
def hh_ [Inhabited gh_] : Int := (default : gh_).2.2.2
/-! the e's of X and Q in step: what is said of the two -/
/-- a fault and its place as one number; none is behind all -/
def kk_ (f p : Int) : Int := if f = 0 then 1000000 else 8 * p + f
def vk_ (f p : Int) : Prop := f = 0 ∨ (1 ≤ f ∧ f ≤ 7 ∧ 0 ≤ p ∧ p ≤ 5000)
/-- X's fault is the first of Q's and of one that was told before -/
def NR [Inhabited gh_] (F : Int) (Mx Mq : mm_) : Prop := vk_ (Mx 1 4) (Mx 1 5) ∧ vk_ (Mq 6 13) (Mq 6 14) ∧ kk_ (Mx 1 4) (Mx 1 5) = min F (kk_ (Mq 6 13) (Mq 6 14)) ∧ F ≤ 1000000 ∧ (Mq 6 16 = 0 ∨ kk_ (Mq 6 13) (Mq 6 14) ≤ bb_ (Mx 1 19))
/-- what an e of X leaves as it is -/
def XF (M M' : mm_) : Prop := Fr_ [1, 5, 142] M M' ∧ (∀ i : Int, i ≠ 3 → i ≠ 4 → i ≠ 5 → i ≠ 6 → i ≠ 7 → M' 1 i = M 1 i) ∧ (∀ i : Int, i ≠ 3 → M' 5 i = M 5 i)
theorem XF_rf [Inhabited gh_] {M : mm_} : XF M M := ⟨Fr_rf, fun _ _ _ _ _ _ => rfl, fun _ _ => rfl⟩
theorem XF_tr [Inhabited gh_] {M M1 M2 : mm_} (h1 : XF M M1) (h2 : XF M1 M2) : XF M M2 := ⟨Fr_tr h1.1 h2.1, fun i a b c e g => (h2.2.1 i a b c e g).trans (h1.2.1 i a b c e g), fun i a => (h2.2.2 i a).trans (h1.2.2 i a)⟩
/-- X's steps from a place on, the latest first -/
def stX (M : mm_) (c : Int) : List Int → Prop
  | [] => True
  | x :: t => M 142 (c + t.length) = x ∧ stX M c t
def XE (M : mm_) (c : Int) (cd : List Int) : Prop := M 5 3 = c + cd.length ∧ stX M c cd
theorem stX_c [Inhabited gh_] {M M' : mm_} {c : Int} : ∀ (l : List Int), (∀ i : Int, c ≤ i → i < c + l.length → M' 142 i = M 142 i) → stX M c l → stX M' c l
  | [], _, _ => trivial
  | x :: t, h, hs => ⟨(h (c + t.length) (by omega) (by simp only [List.length_cons]; omega)).trans hs.1, stX_c t (fun i h0 hi => h i h0 (by simp only [List.length_cons]; omega)) hs.2⟩
/-- X's steps of a form -/
def en_1 (Mq : mm_) (x : Int × Int) : List Int :=
  if x.1 = 1 then [x.2, 0] else if x.1 = 5 then [x.2 + 1] else if x.1 = 8 then [5] else if x.1 = 9 then [6] else if x.1 = 10 then [x.2, 7]
  else if x.1 = 11 then [Mq 184 x.2, 8] else if x.1 = 12 then [Mq 183 x.2, Mq 184 x.2, 9] else if x.1 = 13 then [15] else if x.1 = 14 then [16]
  else if x.1 < 25 then [x.1 - 10] else if x.1 < 31 then [x.1 - 6] else [x.1 - 14]
/-- of forms, the latest first -/
def er_ (Mq : mm_) : List (Int × Int) → List Int
  | [] => []
  | x :: t => en_1 Mq x ++ er_ Mq t
theorem er_app [Inhabited gh_] {Mq : mm_} : ∀ l1 l2 : List (Int × Int), er_ Mq (l1 ++ l2) = er_ Mq l1 ++ er_ Mq l2
  | [], _ => rfl
  | x :: t, l2 => by show en_1 Mq x ++ er_ Mq (t ++ l2) = (en_1 Mq x ++ er_ Mq t) ++ er_ Mq l2; rw [er_app t l2, List.append_assoc]
/-- sorts of what a form takes and leaves: 1 int, 2 bool, 3 pid -/
def ts_ (Mq : mm_) (x : Int × Int) (s s' : List Int) : Prop :=
  (x.1 = 1 ∧ ∃ t, (1 ≤ t ∧ t ≤ 3) ∧ ((t = 2 → x.2 = 0 ∨ x.2 = 1) ∧ 0 ≤ x.2 ∧ x.2 < 1000000000) ∧ s' = t :: s) ∨ (x.1 = 5 ∧ 0 ≤ x.2 ∧ x.2 ≤ 3 ∧ s' = 3 :: s) ∨ ((x.1 = 8 ∨ x.1 = 9) ∧ s' = 1 :: s) ∨ (x.1 = 10 ∧ 0 ≤ x.2 ∧ x.2 < Mq 173 (Mq 6 61) ∧ s' = 2 :: s)
  ∨ (x.1 = 11 ∧ 8 * Mq 6 61 ≤ x.2 ∧ x.2 < 8 * Mq 6 61 + Mq 171 (Mq 6 61) ∧ Mq 183 x.2 = 0 ∧ s' = Mq 182 x.2 :: s) ∨ (x.1 = 12 ∧ 8 * Mq 6 61 ≤ x.2 ∧ x.2 < 8 * Mq 6 61 + Mq 171 (Mq 6 61) ∧ 0 < Mq 183 x.2 ∧ ∃ r, s = 1 :: r ∧ s' = Mq 182 x.2 :: r)
  ∨ ((x.1 = 13 ∨ x.1 = 14) ∧ ∃ r, s = pw_ x.1 :: r ∧ s' = pw_ x.1 :: r) ∨ ((x.1 = 25 ∨ x.1 = 26) ∧ ∃ t r, s = t :: t :: r ∧ s' = 2 :: r)
  ∨ (20 ≤ x.1 ∧ x.1 ≤ 32 ∧ x.1 ≠ 25 ∧ x.1 ≠ 26 ∧ ∃ r, s = rw_ x.1 :: rw_ x.1 :: r ∧ s' = (if x.1 < 25 then 1 else 2) :: r)
/-- of forms, the latest first, with so much room -/
def ty_ (Mq : mm_) (D : Int) : List (Int × Int) → List Int → List Int → Prop
  | [], s, s' => s' = s
  | x :: l, s, s' => ∃ s1, ty_ Mq D l s s1 ∧ ts_ Mq x s1 s' ∧ (s'.length : Int) ≤ D
theorem ty_app [Inhabited gh_] {Mq : mm_} {D : Int} : ∀ (l2 l1 : List (Int × Int)) (s s1 s' : List Int), ty_ Mq D l1 s s1 → ty_ Mq D l2 s1 s' → ty_ Mq D (l2 ++ l1) s s'
  | [], _, _, s1, s', h1, h2 => by rw [show s' = s1 from h2]; exact h1
  | x :: t, l1, s, s1, s', h1, h2 => by
    obtain ⟨s2, a, b, c⟩ := h2
    exact ⟨s2, ty_app t l1 s s1 s2 h1 a, b, c⟩
/-- the tables of the type at hand -/
def nm9_ (M : mm_) (i : Int) : Prop := gd_ M i ∧ M 70 i = 100
def VT (Mx Mq : mm_) : Prop := Mx 1 2 = 5 ∧ Mq 6 61 = Mx 1 18 ∧ 0 ≤ Mx 1 18 ∧ Mx 1 18 < 6 ∧ (0 ≤ Mx 124 (Mx 1 18) ∧ Mx 124 (Mx 1 18) ≤ 8 ∧ Mq 171 (Mx 1 18) = Mx 124 (Mx 1 18)) ∧ (0 ≤ Mx 126 (Mx 1 18) ∧ Mx 126 (Mx 1 18) ≤ 3 ∧ Mq 173 (Mx 1 18) = Mx 126 (Mx 1 18))
  ∧ (∀ k : Int, 0 ≤ k → k < Mx 124 (Mx 1 18) → nm9_ Mx (Mx 60 (8 * Mx 1 18 + k)) ∧ Mq 177 (8 * Mx 1 18 + k) = Mq 151 (Mx 60 (8 * Mx 1 18 + k)) ∧ Mx 130 (8 * Mx 1 18 + k) + 1 = Mq 182 (8 * Mx 1 18 + k) ∧ Mx 131 (8 * Mx 1 18 + k) = Mq 183 (8 * Mx 1 18 + k) ∧ Mx 132 (8 * Mx 1 18 + k) = Mq 184 (8 * Mx 1 18 + k) ∧ 0 ≤ Mx 130 (8 * Mx 1 18 + k) ∧ Mx 130 (8 * Mx 1 18 + k) ≤ 2 ∧ 0 ≤ Mx 131 (8 * Mx 1 18 + k))
  ∧ (∀ k : Int, 0 ≤ k → k < Mx 126 (Mx 1 18) → nm9_ Mx (Mx 61 (3 * Mx 1 18 + k)) ∧ Mq 178 (3 * Mx 1 18 + k) = Mq 151 (Mx 61 (3 * Mx 1 18 + k)))
/-- X and Q stand at the same token -/
def ER [Inhabited gh_] (b F : Int) (Mx Mq : mm_) (a o : Int) : Prop :=
  gd_ Mx a ∧ Mx 1 3 = a ∧ Mq 6 12 = a ∧ Mx 1 6 = o ∧ Mq 6 15 = o ∧ (0 ≤ o ∧ o ≤ 12) ∧ Mx 1 8 = b ∧ Mq 6 16 = b ∧ (b = 0 ∨ b = 1) ∧ (b = 0 → Mq 6 13 = 0) ∧ NR F Mx Mq ∧ 0 ≤ Mx 1 7 ∧ Mx 1 7 + 8 * (1201 - a) ≤ 1000001000 - (gg_ : Int) ∧ 0 ≤ Mx 5 3 ∧ Mx 5 3 ≤ 9 * a + 1000
/-- what waits in Q -/
def LI (sg : List (Int × Int)) (ws : List (Int × Int × Int)) (c : Int) (cm : List Int) (f : Int) (fm : List (Int × Int)) (a o : Int) : Prop :=
  (∀ x, x ∈ sg → 0 ≤ x.2 ∧ x.2 < 1202) ∧ (∀ x, x ∈ ws → x.2.2 = 0 ∨ x.2.2 = 1) ∧ (c = 0 ∨ c = 1) ∧ cm.length = nb_ sg ∧ (cm.length : Int) ≤ o ∧ (sg.length : Int) ≤ a ∧ (ws.length : Int) ≤ a ∧ 0 ≤ f ∧ f + fm.length + sg.length ≤ 1500 + a
/-- an e (or a part of one) has been read by both -/
def EP [Inhabited gh_] (need b F : Int) (Mx Mq Mx' Mq' : mm_) (a a' o : Int) (sg : List (Int × Int)) (ws : List (Int × Int × Int)) (c' : Int) (cm : List Int) (f : Int) (fm : List (Int × Int)) (cc : Int) (cd y : List Int) (s t bd : Int) (l : List (Int × Int)) : Prop :=
  a < a' ∧ XF Mx Mx' ∧ QF Mq Mq' ∧ ER b F Mx' Mq' a' o ∧ QE Mq' sg ((t, Mx 71 a, bd) :: ws) (c' :: cm) f (l ++ fm) ∧ (bd = 0 ∨ bd = 1) ∧ (l.length : Int) ≤ a' - a
  ∧ (XE Mx' cc (y ++ cd) ∧ (b = 0 → y = []) ∧ (b = 1 → bd = 0 → y = er_ Mq l) ∧ (y.length : Int) ≤ 3 * (a' - a))
  ∧ (Mx' 1 7 - 8 * a' + 4 ≤ Mx 1 7 - 8 * a ∧ Mx 1 7 ≤ Mx' 1 7)
  ∧ (b = 1 → (bd = 0 → s = t - 1 ∧ 1 ≤ t ∧ t ≤ 3 ∧ Mx' 1 7 = Mx 1 7 ∧ fqq_ Mq' = fqq_ Mq) ∧ (bd = 1 → (s = -1 ∨ s = t - 1) ∧ Mx 1 7 < Mx' 1 7 ∧ kk_ (Mq' 6 13) (Mq' 6 14) < 8 * Mx 71 a'))
  ∧ (b = 1 → bd = 0 → ∀ (st : List Int) (D : Int), st.length + need ≤ D → ty_ Mq D l st (t :: st))
theorem kk_nt1 [Inhabited gh_] {M : mm_} {k t : Int} (h : vk_ (M 1 4) (M 1 5)) (h1 : 1 ≤ k) (h2 : k ≤ 7) (h3 : 0 ≤ M 71 t) (h4 : M 71 t ≤ 5000) : kk_ (nt1_ M k t 1 4) (nt1_ M k t 1 5) = min (kk_ (M 1 4) (M 1 5)) (8 * M 71 t + k) ∧ vk_ (nt1_ M k t 1 4) (nt1_ M k t 1 5) := by
  unfold nt1_
  by_cases c : M 1 4 = 0 ∨ M 71 t < M 1 5 ∨ M 71 t = M 1 5 ∧ k < M 1 4
  · rw [if_pos c]
    have e1 : up_ (up_ (up_ M 1 7 (M 1 7 + 1)) 1 4 k) 1 5 (M 71 t) 1 4 = k := by rw [up_off (by decide), up_at]
    have e2 : up_ (up_ (up_ M 1 7 (M 1 7 + 1)) 1 4 k) 1 5 (M 71 t) 1 5 = M 71 t := by rw [up_at]
    rw [e1, e2]
    unfold kk_ vk_ at *
    split
    · omega
    · split <;> omega
  · rw [if_neg c]
    have e1 : up_ M 1 7 (M 1 7 + 1) 1 4 = M 1 4 := by rw [up_off (by decide)]
    have e2 : up_ M 1 7 (M 1 7 + 1) 1 5 = M 1 5 := by rw [up_off (by decide)]
    rw [e1, e2]
    unfold kk_ vk_ at *
    split <;> omega
theorem kk_np [Inhabited gh_] {q : Int × Int} {k p : Int} (h : vk_ q.1 q.2) (h1 : 1 ≤ k) (h2 : k ≤ 7) (h3 : 0 ≤ p) (h4 : p ≤ 5000) : kk_ (np_ 1 q k p).1 (np_ 1 q k p).2 = min (kk_ q.1 q.2) (8 * p + k) ∧ vk_ (np_ 1 q k p).1 (np_ 1 q k p).2 := by
  unfold np_
  rw [if_neg (by decide)]
  by_cases c : q.1 = 0 ∨ p < q.2 ∨ p = q.2 ∧ k < q.1
  · rw [if_pos c]
    unfold kk_ vk_ at *
    simp only []
    split
    · omega
    · split <;> omega
  · rw [if_neg c]
    unfold kk_ vk_ at *
    split <;> omega
theorem nt1_7 [Inhabited gh_] {M : mm_} {k t : Int} : nt1_ M k t 1 7 = M 1 7 + 1 := by
  unfold nt1_; split
  · rw [up_off (by decide), up_off (by decide), up_at]
  · rw [up_at]
theorem nt1_1 [Inhabited gh_] {M : mm_} {k t i : Int} (h4 : i ≠ 4) (h5 : i ≠ 5) (h7 : i ≠ 7) : nt1_ M k t 1 i = M 1 i := by
  unfold nt1_; split
  · rw [up_off h5, up_off h4, up_off h7]
  · rw [up_off h7]
theorem nt1_r [Inhabited gh_] {M : mm_} {k t : Int} {r : Nat} (h : r ≠ 1) : nt1_ M k t r = M r := by
  unfold nt1_; split
  · rw [up_ne h, up_ne h, up_ne h]
  · rw [up_ne h]
/-- X asks for a sort -/
def hX_ (M : mm_) (s w t : Int) : mm_ := if M 1 8 = 0 ∨ s = -1 ∨ s = w then M else nt1_ M 5 t
def pX_ (M : mm_) (v : Int) : mm_ := if M 1 8 = 0 then M else up_ (up_ M 142 (M 5 3) v) 5 3 (M 5 3 + 1)
section EX
variable {d : Nat} {M : mm_} {K : Int → mm_ → Prop} {Kv : mm_ → Prop} {Qt : qt_}
theorem x_156 [Inhabited gh_] {s w t : Int} (h0 : 0 ≤ t) (h1 : t < 1202) (h2 : 0 ≤ M 1 7) (h3 : M 1 7 < 2147483647) (h : Kv (hX_ M s w t)) : Tr_ wd0 pg0 (d + 2) 156 [.inr (.inr 1), .inl s, .inl w, .inl t] M (rv_ Kv) Qt := t_156 fun V hV hW => b_156_0 (Tr_mono _) hV hW s w t M (by
  intro _
  unfold hX_ at h
  by_cases c1 : M 1 8 = 0
  · rw [if_pos c1]; rw [if_pos (.inl c1)] at h; exact rv_i h
  · rw [if_neg c1]
    by_cases c2 : s = -1
    · rw [if_pos c2]; rw [if_pos (.inr (.inl c2))] at h; exact rv_i h
    · rw [if_neg c2]
      by_cases c3 : s = w
      · rw [if_pos c3]; rw [if_pos (.inr (.inr c3))] at h; exact rv_i h
      · rw [if_neg c3]; rw [if_neg (by omega)] at h
        exact x_116 h0 h1 h2 h3 (rv_i h))
theorem x_138 [Inhabited gh_] {v : Int} (h2 : M 1 2 = 5) (h0 : 0 ≤ M 5 3) (h1 : M 5 3 < 12000) (h : Kv (pX_ M v)) : Tr_ wd0 pg0 (d + 2) 138 [.inr (.inr 1), .inl v] M (rv_ Kv) Qt := t_138 fun V hV hW => b_138_0 (Tr_mono _) hV hW v M (by
  intro _
  unfold pX_ at h
  by_cases c1 : M 1 8 = 0
  · rw [if_pos c1] at h ⊢; exact rv_i h
  · rw [if_neg c1] at h ⊢
    refine ⟨h2, t_207 fun V hV hW => b_207_0 (Tr_mono _) hV hW v M ⟨⟨h0, h1⟩, rv_i (rv_i ?_)⟩⟩
    rw [w32_id (by omega) (by omega)]; exact h)
end EX
end T68_er
section T69_er
/-! small facts of X's and Q's memories in an e -/
section EF
variable {M : mm_} {b F : Int}
theorem hX_c [Inhabited gh_] (s w t : Int) (hb : M 1 8 = b) (h01 : b = 0 ∨ b = 1) : (hX_ M s w t = M ∧ (b = 0 ∨ s = -1 ∨ s = w)) ∨ (b = 1 ∧ s ≠ -1 ∧ s ≠ w ∧ hX_ M s w t = nt1_ M 5 t) := by
  unfold hX_
  by_cases c : M 1 8 = 0 ∨ s = -1 ∨ s = w
  · rw [if_pos c]; exact .inl ⟨rfl, by omega⟩
  · rw [if_neg c]; exact .inr ⟨by omega, by omega, by omega, rfl⟩
theorem nt1_XF [Inhabited gh_] {k t : Int} : XF M (nt1_ M k t) := ⟨fun r h => nt1_r fun e => h (by rw [e]; decide), fun i _ h4 h5 _ h7 => nt1_1 h4 h5 h7, fun i _ => by rw [nt1_r (by decide)]⟩
theorem hX_XF [Inhabited gh_] {s w t : Int} : XF M (hX_ M s w t) := by
  unfold hX_; split
  · exact XF_rf
  · exact nt1_XF
theorem hX_1 [Inhabited gh_] {s w t i : Int} (h4 : i ≠ 4) (h5 : i ≠ 5) (h7 : i ≠ 7) : hX_ M s w t 1 i = M 1 i := by
  unfold hX_; split
  · rfl
  · exact nt1_1 h4 h5 h7
theorem hX_r [Inhabited gh_] {s w t : Int} {r : Nat} (h : r ≠ 1) : hX_ M s w t r = M r := by
  unfold hX_; split
  · rfl
  · exact nt1_r h
theorem nX_XF [Inhabited gh_] : XF M (nX_ M) := ⟨fun r h => nX_ne fun e => h (by rw [e]; decide), fun i h _ _ _ _ => nX_1 h, fun i _ => by rw [nX_ne (by decide)]⟩
theorem pX_1 [Inhabited gh_] {v : Int} : pX_ M v 1 = M 1 := by
  unfold pX_; split
  · rfl
  · rw [up_ne (by decide), up_ne (by decide)]
theorem pX_r [Inhabited gh_] {v : Int} {r : Nat} (h : r ≠ 5) (h1 : r ≠ 142) : pX_ M v r = M r := by
  unfold pX_; split
  · rfl
  · rw [up_ne h, up_ne h1]
theorem pX_5 [Inhabited gh_] {v i : Int} (h : i ≠ 3) : pX_ M v 5 i = M 5 i := by
  unfold pX_; split
  · rfl
  · rw [up_off h, up_ne (by decide)]
theorem pX_XF [Inhabited gh_] {v : Int} : XF M (pX_ M v) := ⟨fun r h => pX_r (fun e => h (by rw [e]; decide)) (fun e => h (by rw [e]; decide)), fun i _ _ _ _ _ => by rw [pX_1], fun i h => pX_5 h⟩
theorem pX_0 [Inhabited gh_] {v : Int} (h : M 1 8 = 0) : pX_ M v = M := by unfold pX_; rw [if_pos h]
theorem pX_E [Inhabited gh_] {v cc : Int} {cd : List Int} (h : M 1 8 ≠ 0) (hE : XE M cc cd) : XE (pX_ M v) cc (v :: cd) := by
  unfold pX_
  rw [if_neg h]
  refine ⟨by rw [up_at, hE.1, List.length_cons]; omega, by rw [up_ne (by decide), hE.1, up_at], stX_c _ (fun i hi hj => ?_) hE.2⟩
  rw [up_ne (by decide), up_off (by rw [hE.1]; omega)]
theorem XE_c [Inhabited gh_] {M' : mm_} {cc : Int} {cd : List Int} (h5 : M' 5 3 = M 5 3) (h142 : M' 142 = M 142) (hE : XE M cc cd) : XE M' cc cd := ⟨h5.trans hE.1, stX_c _ (fun i _ _ => by rw [h142]) hE.2⟩
theorem gd_c [Inhabited gh_] {M' : mm_} {a : Int} (h70 : M' 70 = M 70) (h : gd_ M a) : gd_ M' a := by unfold gd_; rw [h70]; exact h
theorem gd_n [Inhabited gh_] {a : Int} (h : gd_ M a) (h1 : a < 1200) (h2 : M 70 a ≠ 102) (h3 : M 70 a ≠ 103) : gd_ M (a + 1) := by
  refine ⟨by have := h.1; omega, by omega, fun j hj hj1 => ?_⟩
  by_cases e : j = a
  · rw [e]; exact ⟨h2, h3⟩
  · exact h.2.2 j hj (by omega)
theorem lv_k [Inhabited gh_] {k : Int} (h : lv_ k ≠ 0) : k ≠ 102 ∧ k ≠ 103 := by
  constructor
  · intro e; apply h; rw [e]; decide
  · intro e; apply h; rw [e]; decide
theorem XF_70 [Inhabited gh_] {M' : mm_} (h : XF M M') {r : Nat} (h1 : r ≠ 1) (h5 : r ≠ 5) (h2 : r ≠ 142) : M' r = M r := h.1 r (by simp only [List.mem_cons, List.not_mem_nil, or_false, not_or]; exact ⟨h1, h5, h2⟩)
theorem QF_r [Inhabited gh_] {M' : mm_} (h : QF M M') {r : Nat} (h1 : r < 227) (h6 : r ≠ 6) : M' r = M r := h.1 r (by simp only [List.mem_cons, List.not_mem_nil, or_false, not_or]; omega)
theorem QF_16 [Inhabited gh_] {M' : mm_} (h : QF M M') : M' 6 16 = M 6 16 := h.2 16 (by decide) (by decide) (by decide) (by decide) (by decide) (by decide) (by decide) (by decide)
theorem QF_61 [Inhabited gh_] {M' : mm_} (h : QF M M') : M' 6 61 = M 6 61 := h.2 61 (by decide) (by decide) (by decide) (by decide) (by decide) (by decide) (by decide) (by decide)
theorem nx_QF [Inhabited gh_] : QF M (nx_ M) := ⟨fun r h => nx_ne fun e => h (by rw [e]; decide), fun i h _ _ _ _ _ _ _ => nx_6 h⟩
/-- tables and code words do not change in an e -/
theorem en_1c [Inhabited gh_] {M' : mm_} (h : QF M M') (x : Int × Int) : en_1 M' x = en_1 M x := by
  unfold en_1
  rw [QF_r h (r := 184) (by decide) (by decide), QF_r h (r := 183) (by decide) (by decide)]
theorem er_c [Inhabited gh_] {M' : mm_} (h : QF M M') : ∀ l : List (Int × Int), er_ M' l = er_ M l
  | [] => rfl
  | x :: t => by show en_1 M' x ++ er_ M' t = en_1 M x ++ er_ M t; rw [en_1c h, er_c h t]
theorem ts_c [Inhabited gh_] {M' : mm_} (h : QF M M') {x : Int × Int} {s s' : List Int} (ht : ts_ M' x s s') : ts_ M x s s' := by
  unfold ts_ at ht ⊢
  rw [QF_r h (r := 173) (by decide) (by decide), QF_r h (r := 171) (by decide) (by decide), QF_r h (r := 183) (by decide) (by decide), QF_r h (r := 182) (by decide) (by decide), QF_61 h] at ht
  exact ht
theorem ty_c [Inhabited gh_] {M' : mm_} {D : Int} (h : QF M M') : ∀ (l : List (Int × Int)) (s s' : List Int), ty_ M' D l s s' → ty_ M D l s s'
  | [], _, _, ht => ht
  | x :: t, s, s', ⟨s1, a, b, c⟩ => ⟨s1, ty_c h t s s1 a, ts_c h b, c⟩
theorem kk_lt [Inhabited gh_] {f p X : Int} (h : kk_ f p < 8 * X) (hX : X ≤ 5000) (hv : vk_ f p) : f ≠ 0 ∧ p < X := by
  unfold kk_ at h; unfold vk_ at hv
  split at h <;> omega
theorem VT_c [Inhabited gh_] {Mx Mq Mx' Mq' : mm_} (hx : XF Mx Mx') (hq : QF Mq Mq') (h : VT Mx Mq) : VT Mx' Mq' := by
  have e18 : Mx' 1 18 = Mx 1 18 := hx.2.1 18 (by decide) (by decide) (by decide) (by decide) (by decide)
  have e2 : Mx' 1 2 = Mx 1 2 := hx.2.1 2 (by decide) (by decide) (by decide) (by decide) (by decide)
  unfold VT nm9_ gd_ at *
  rw [e18, e2, QF_61 hq, XF_70 hx (r := 124) (by decide) (by decide) (by decide), XF_70 hx (r := 126) (by decide) (by decide) (by decide), XF_70 hx (r := 60) (by decide) (by decide) (by decide), XF_70 hx (r := 61) (by decide) (by decide) (by decide), XF_70 hx (r := 70) (by decide) (by decide) (by decide), XF_70 hx (r := 130) (by decide) (by decide) (by decide), XF_70 hx (r := 131) (by decide) (by decide) (by decide), XF_70 hx (r := 132) (by decide) (by decide) (by decide), QF_r hq (r := 171) (by decide) (by decide), QF_r hq (r := 173) (by decide) (by decide), QF_r hq (r := 177) (by decide) (by decide), QF_r hq (r := 151) (by decide) (by decide), QF_r hq (r := 182) (by decide) (by decide), QF_r hq (r := 183) (by decide) (by decide), QF_r hq (r := 184) (by decide) (by decide), QF_r hq (r := 178) (by decide) (by decide)]
  exact h
theorem Tks_c [Inhabited gh_] {Mx Mq Mx' Mq' : mm_} (hx : XF Mx Mx') (hq : QF Mq Mq') (h : Tks Mx Mq) : Tks Mx' Mq' := by
  unfold Tks gd_ lk9_ at *
  rw [XF_70 hx (r := 69) (by decide) (by decide) (by decide), XF_70 hx (r := 70) (by decide) (by decide) (by decide), XF_70 hx (r := 71) (by decide) (by decide) (by decide), XF_70 hx (r := 72) (by decide) (by decide) (by decide), XF_70 hx (r := 73) (by decide) (by decide) (by decide), QF_r hq (r := 149) (by decide) (by decide), QF_r hq (r := 150) (by decide) (by decide), QF_r hq (r := 151) (by decide) (by decide)]
  exact h
end EF
end T69_er
section T70_er
/-! two parts of an e and the sign between them -/
section EB
variable {need b F : Int} {Mx Mq Mx1 Mq1 : mm_} {a a1 o : Int} {sg : List (Int × Int)} {ws : List (Int × Int × Int)} {c1 : Int} {cm : List Int} {f : Int} {fm : List (Int × Int)} {cc : Int} {cd : List Int} {s1 t1 bd1 : Int} {l1 : List (Int × Int)}
/-- behind the sign -/
def mi_ (M : mm_) (cl : Nat) (c s a : Int) : mm_ := nx_ (ho_ (up_ M 234 (cl : Int) c) s a)
theorem mi_6 [Inhabited gh_] {M : mm_} {cl : Nat} {c s a i : Int} (h : i ≠ 12) (h2 : i ≠ 112) : mi_ M cl c s a 6 i = M 6 i := by unfold mi_; rw [nx_6 h, ho_6 h2, up_ne (by decide)]
theorem mi_12 [Inhabited gh_] {M : mm_} {cl : Nat} {c s a : Int} : mi_ M cl c s a 6 12 = M 6 12 + 1 := by unfold mi_; rw [nx_12, ho_6 (by decide), up_ne (by decide)]
theorem mi_QF [Inhabited gh_] {M : mm_} {cl : Nat} {c s a : Int} : QF M (mi_ M cl c s a) := QF_tr (QF_tr ⟨Fr_up Fr_rf (by decide), fun i _ _ _ _ _ _ _ _ => by rw [up_ne (by decide)]⟩ ho_QF) nx_QF
theorem mi_fq [Inhabited gh_] {M : mm_} {cl : Nat} {c s a : Int} : fqq_ (mi_ M cl c s a) = fqq_ M := by unfold fqq_; rw [mi_6 (by decide) (by decide), mi_6 (by decide) (by decide)]
theorem mi_QE [Inhabited gh_] {M : mm_} {c' c s a : Int} (h : QE M sg ws (c' :: cm) f fm) : QE (mi_ M cm.length c s a) ((s, a) :: sg) ws (c :: cm) f fm := nx_QE (ho_QE (cC_QE h rfl))
theorem tk_p [Inhabited gh_] (hT : Tks Mx Mq) {i : Int} (h : gd_ Mx i) : 0 ≤ Mx 71 i ∧ Mx 71 i ≤ 5000 := by
  have := (hT i h).2.2.2.1
  omega
theorem EP_mid [Inhabited gh_] (hT : Tks Mx Mq) (hga : gd_ Mx a) {y1 : List Int} (hXF : XF Mx Mx1) (hER : ER b F Mx1 Mq1 a1 o) (hXE : XE Mx1 cc (y1 ++ cd)) {k c2 F2 : Int} {Mh : mm_} (hk : Mx 70 a1 = k) (hlv : lv_ k ≠ 0) (h12 : a1 < 1200)
    (hMh : (Mh = Mx1 ∧ F2 = F) ∨ (b = 1 ∧ Mh = nt1_ Mx1 5 a ∧ F2 = min F (8 * Mx 71 a + 5))) :
    ER b F2 (nX_ Mh) (mi_ Mq1 cm.length c2 (sh_ k) a1) (a1 + 1) o ∧ XF Mx1 (nX_ Mh) ∧ XE (nX_ Mh) cc (y1 ++ cd) ∧ (nX_ Mh 1 7 = Mx1 1 7 ∨ nX_ Mh 1 7 = Mx1 1 7 + 1) := by
  obtain ⟨e1, e2, e3, e4, e5, e6, e7, e8, e9, e10, e11, e12, e13, e14, e15⟩ := hER
  have hp := tk_p hT hga
  have hX1 : XF Mx1 Mh := by
    rcases hMh with h | h
    · rw [h.1]; exact XF_rf
    · rw [h.2.1]; exact nt1_XF
  have hX2 : XF Mx1 (nX_ Mh) := XF_tr hX1 nX_XF
  have i1 : ∀ i : Int, i ≠ 3 → i ≠ 4 → i ≠ 5 → i ≠ 7 → nX_ Mh 1 i = Mx1 1 i := by
    intro i a3 a4 a5 a7
    rw [nX_1 a3]
    rcases hMh with h | h
    · rw [h.1]
    · rw [h.2.1, nt1_1 a4 a5 a7]
  have i3 : Mh 1 3 = Mx1 1 3 := by
    rcases hMh with h | h
    · rw [h.1]
    · rw [h.2.1, nt1_1 (by decide) (by decide) (by decide)]
  have i7 : nX_ Mh 1 7 = Mx1 1 7 ∨ nX_ Mh 1 7 = Mx1 1 7 + 1 := by
    rw [nX_1 (by decide)]
    rcases hMh with h | h
    · rw [h.1]; exact .inl rfl
    · rw [h.2.1, nt1_7]; exact .inr rfl
  have h5 : nX_ Mh 5 = Mx1 5 := by
    rw [nX_ne (by decide)]
    rcases hMh with h | h
    · rw [h.1]
    · rw [h.2.1, nt1_r (by decide)]
  have h142 : nX_ Mh 142 = Mx1 142 := by
    rw [nX_ne (by decide)]
    rcases hMh with h | h
    · rw [h.1]
    · rw [h.2.1, nt1_r (by decide)]
  have h70 : Mx1 70 = Mx 70 := XF_70 hXF (by decide) (by decide) (by decide)
  have h71 : Mx1 71 = Mx 71 := XF_70 hXF (by decide) (by decide) (by decide)
  refine ⟨⟨?_, ?_, ?_, ?_, ?_, e6, ?_, ?_, e9, ?_, ?_, ?_, ?_, ?_, ?_⟩, hX2, XE_c (by rw [h5]) h142 hXE, i7⟩
  · have hk2 := lv_k hlv
    refine gd_c (XF_70 hX2 (by decide) (by decide) (by decide)) (gd_n e1 h12 ?_ ?_)
    · rw [h70, hk]; exact hk2.1
    · rw [h70, hk]; exact hk2.2
  · rw [nX_3, i3, e2]
  · rw [mi_12, e3]
  · rw [i1 6 (by decide) (by decide) (by decide) (by decide)]; exact e4
  · rw [mi_6 (by decide) (by decide)]; exact e5
  · rw [i1 8 (by decide) (by decide) (by decide) (by decide)]; exact e7
  · rw [mi_6 (by decide) (by decide)]; exact e8
  · rw [mi_6 (by decide) (by decide)]; exact e10
  · have := e11
    obtain ⟨n1, n2, n3, n4⟩ := this
    unfold NR
    rw [mi_6 (by decide) (by decide), mi_6 (by decide) (by decide), mi_6 (by decide) (by decide), nX_1 (by decide), nX_1 (by decide), nX_1 (by decide)]
    rcases hMh with h | h
    · rw [h.1, h.2]; exact ⟨n1, n2, n3, n4⟩
    · have hn := kk_nt1 (M := Mx1) (k := 5) (t := a) n1 (by decide) (by decide) (by rw [h71]; exact hp.1) (by rw [h71]; exact hp.2)
      rw [h.2.1, h.2.2]
      refine ⟨hn.2, n2, ?_, by have := n4.1; omega, by rw [nt1_1 (by decide) (by decide) (by decide)]; exact n4.2⟩
      rw [hn.1, n3, h71]; omega
  · rcases i7 with h | h <;> omega
  · rcases i7 with h | h <;> omega
  · rw [h5]; exact e14
  · rw [h5]; omega
/-- X's op of a sign that binds two -/
def xo9_ (s : Int) : Int := if s < 25 then s - 10 else if s < 31 then s - 6 else s - 14
theorem en_op [Inhabited gh_] {M : mm_} {s : Int} (h : 20 ≤ s) : en_1 M (s, 0) = [xo9_ s] := by
  unfold en_1 xo9_
  simp only []
  rw [if_neg (by omega), if_neg (by omega), if_neg (by omega), if_neg (by omega), if_neg (by omega), if_neg (by omega), if_neg (by omega), if_neg (by omega), if_neg (by omega)]
  split
  · rfl
  · split <;> rfl
theorem aq_k [Inhabited gh_] {q : Int × Int} {x : Int × Int × Int} {w : Int} (h : vk_ q.1 q.2) (hp : 0 ≤ x.2.1 ∧ x.2.1 ≤ 5000) : vk_ (aq_ 1 q x w).1 (aq_ 1 q x w).2 ∧ kk_ (aq_ 1 q x w).1 (aq_ 1 q x w).2 = if x.2.2 = 0 ∧ x.1 ≠ w then min (kk_ q.1 q.2) (8 * x.2.1 + 5) else kk_ q.1 q.2 := by
  unfold aq_
  by_cases c : x.2.2 = 0 ∧ x.1 ≠ w
  · rw [if_pos c, if_pos c]
    have := kk_np (q := q) (k := 5) h (by decide) (by decide) hp.1 hp.2
    exact ⟨this.2, this.1⟩
  · rw [if_neg c, if_neg c]; exact ⟨h, rfl⟩
/-- what X notes is what Q notes -/
theorem bin_x1 [Inhabited gh_] {s s1 w t1 bd1 : Int} (any : ¬ (s = 25 ∨ s = 26)) (b1 : bd1 = 0 ∨ bd1 = 1) (hw : w = rw_ s - 1) (hl : (bd1 = 0 → s1 = t1 - 1 ∧ 1 ≤ t1 ∧ t1 ≤ 3) ∧ (bd1 = 1 → s1 = -1 ∨ (s1 = w ∧ ¬ (s = 25 ∨ s = 26)))) : ((s = 25 ∨ s = 26) ∨ s1 = -1 ∨ s1 = w) ↔ ¬ (bd1 = 0 ∧ t1 ≠ rw_ s) := by
  rcases b1 with h | h
  · have := hl.1 h
    clear hl
    constructor
    · rintro (h9 | h9)
      · exact absurd h9 any
      · omega
    · intro h9; right; omega
  · have h2 := hl.2 h
    constructor
    · intro _ h9; omega
    · intro _
      rcases h2 with h3 | h3
      · exact .inr (.inl h3)
      · exact .inr (.inr h3.1)
theorem bin_x2 [Inhabited gh_] {s s2 w2 t2 bd2 : Int} (b2 : bd2 = 0 ∨ bd2 = 1) (hw : w2 = rw_ s - 1) (hr : (bd2 = 0 → s2 = t2 - 1 ∧ 1 ≤ t2 ∧ t2 ≤ 3) ∧ (bd2 = 1 → s2 = -1)) : (s2 = -1 ∨ s2 = w2) ↔ ¬ (bd2 = 0 ∧ t2 ≠ rw_ s) := by
  rcases b2 with h | h
  · have := hr.1 h
    clear hr
    constructor <;> intro h9 <;> omega
  · have h2 := hr.2 h
    constructor
    · intro _ h9; omega
    · intro _; exact .inl h2
theorem bin_kx [Inhabited gh_] {F F2 kx3 kx4 kq3 kq4 A B : Int} {P1 P2 : Prop} [Decidable P1] [Decidable P2] (eF : F2 = if P1 then min F A else F) (h3 : kx3 = min F2 kq3) (e4 : kx4 = if P2 then min kx3 B else kx3) (k4 : kq4 = if P2 then min (if P1 then min kq3 A else kq3) B else (if P1 then min kq3 A else kq3)) : kx4 = min F kq4 ∧ kq4 ≤ kq3 ∧ (P1 → kq4 ≤ A) ∧ (P2 → kq4 ≤ B) := by
  by_cases c1 : P1
  · rw [if_pos c1] at eF
    rw [if_pos c1] at k4
    by_cases c2 : P2
    · rw [if_pos c2] at e4 k4
      exact ⟨by omega, by omega, fun _ => by omega, fun _ => by omega⟩
    · rw [if_neg c2] at e4 k4
      exact ⟨by omega, by omega, fun _ => by omega, fun h => absurd h c2⟩
  · rw [if_neg c1] at eF
    rw [if_neg c1] at k4
    by_cases c2 : P2
    · rw [if_pos c2] at e4 k4
      exact ⟨by omega, by omega, fun h => absurd h c1, fun _ => by omega⟩
    · rw [if_neg c2] at e4 k4
      exact ⟨by omega, by omega, fun h => absurd h c1, fun h => absurd h c2⟩
theorem bin_fl [Inhabited gh_] {fl0 fl1 fl2 fl3 fl4 bd1 bd2 : Int} {P1 P2 : Prop} [Decidable P1] [Decidable P2] (b1 : bd1 = 0 ∨ bd1 = 1) (b2 : bd2 = 0 ∨ bd2 = 1) (f1 : (bd1 = 0 → fl1 = fl0) ∧ (bd1 = 1 → fl0 < fl1)) (f2 : fl2 = if P1 then fl1 + 1 else fl1) (f3 : (bd2 = 0 → fl3 = fl2) ∧ (bd2 = 1 → fl2 < fl3)) (f4 : fl4 = if P2 then fl3 + 1 else fl3) : (bd1 = 0 → bd2 = 0 → ¬ P1 → ¬ P2 → fl4 = fl0) ∧ (bd1 = 1 ∨ bd2 = 1 ∨ P1 ∨ P2 → fl0 < fl4) ∧ fl4 ≤ fl3 + 1 ∧ fl2 ≤ fl1 + 1 := by
  have g3 : fl0 ≤ fl1 := by rcases b1 with h | h; have := f1.1 h; omega; have := f1.2 h; omega
  have g4 : fl2 ≤ fl3 := by rcases b2 with h | h; have := f3.1 h; omega; have := f3.2 h; omega
  have g5 : fl3 ≤ fl4 ∧ fl4 ≤ fl3 + 1 ∧ (P2 → fl3 < fl4) := by
    rw [f4]; split
    · exact ⟨by omega, by omega, fun _ => by omega⟩
    · rename_i h; exact ⟨by omega, by omega, fun h9 => absurd h9 h⟩
  have g6 : fl1 ≤ fl2 ∧ fl2 ≤ fl1 + 1 ∧ (P1 → fl1 < fl2) := by
    rw [f2]; split
    · exact ⟨by omega, by omega, fun _ => by omega⟩
    · rename_i h; exact ⟨by omega, by omega, fun h9 => absurd h9 h⟩
  refine ⟨fun h1 h2 n1 n2 => ?_, fun h => ?_, g5.2.1, g6.2.1⟩
  · rw [f4, if_neg n2, f3.1 h2, f2, if_neg n1, f1.1 h1]
  · rcases h with h | h | h | h
    · have := f1.2 h; omega
    · have := f3.2 h; omega
    · have := g6.2.2 h; omega
    · have := g5.2.2 h; omega
theorem bin_o [Inhabited gh_] {F F2 kx3 kx4 : Int} {q3 q4 : Int × Int} {s s1 s2 w w2 p1 p2 t1 t2 bd1 bd2 fl1 fl2 fl3 fl4 fl0 rb : Int} (any : ¬ (s = 25 ∨ s = 26)) (hv : vk_ q3.1 q3.2) (b1 : bd1 = 0 ∨ bd1 = 1) (b2 : bd2 = 0 ∨ bd2 = 1)
    (erq : q4 = aq_ 1 (aq_ 1 q3 (t1, p1, bd1) (rw_ s)) (t2, p2, bd2) (rw_ s)) (erb : rb = if bd1 = 0 ∧ bd2 = 0 ∧ t1 = rw_ s ∧ t2 = rw_ s then 0 else 1) (hv4 : vk_ (aq_ 1 (aq_ 1 q3 (t1, p1, bd1) (rw_ s)) (t2, p2, bd2) (rw_ s)).1 (aq_ 1 (aq_ 1 q3 (t1, p1, bd1) (rw_ s)) (t2, p2, bd2) (rw_ s)).2)
    (k3 : kk_ (aq_ 1 (aq_ 1 q3 (t1, p1, bd1) (rw_ s)) (t2, p2, bd2) (rw_ s)).1 (aq_ 1 (aq_ 1 q3 (t1, p1, bd1) (rw_ s)) (t2, p2, bd2) (rw_ s)).2 = if bd2 = 0 ∧ t2 ≠ rw_ s then min (if bd1 = 0 ∧ t1 ≠ rw_ s then min (kk_ q3.1 q3.2) (8 * p1 + 5) else kk_ q3.1 q3.2) (8 * p2 + 5) else (if bd1 = 0 ∧ t1 ≠ rw_ s then min (kk_ q3.1 q3.2) (8 * p1 + 5) else kk_ q3.1 q3.2))
    (x1 : ((s = 25 ∨ s = 26) ∨ s1 = -1 ∨ s1 = w) ↔ ¬ (bd1 = 0 ∧ t1 ≠ rw_ s)) (x2 : (s2 = -1 ∨ s2 = w2) ↔ ¬ (bd2 = 0 ∧ t2 ≠ rw_ s))
    (hF2 : F2 = if (s = 25 ∨ s = 26) ∨ s1 = -1 ∨ s1 = w then F else min F (8 * p1 + 5)) (h3 : kx3 = min F2 (kk_ q3.1 q3.2)) (h4 : kx4 = if s2 = -1 ∨ s2 = w2 then kx3 else min kx3 (8 * p2 + 5))
    (hx : bd1 = 1 → bd2 = 0 → kk_ q3.1 q3.2 < 8 * p2)
    (f1 : (bd1 = 0 → fl1 = fl0) ∧ (bd1 = 1 → fl0 < fl1)) (f2 : fl2 = if (s = 25 ∨ s = 26) ∨ s1 = -1 ∨ s1 = w then fl1 else fl1 + 1) (f3 : (bd2 = 0 → fl3 = fl2) ∧ (bd2 = 1 → fl2 < fl3)) (f4 : fl4 = if s2 = -1 ∨ s2 = w2 then fl3 else fl3 + 1) :
    vk_ q4.1 q4.2 ∧ kx4 = min F (kk_ q4.1 q4.2)
    ∧ (rb = 0 → q4 = q3 ∧ fl4 = fl0 ∧ bd1 = 0 ∧ bd2 = 0 ∧ (if s = 25 ∨ s = 26 then t1 = t2 else t1 = rw_ s ∧ t2 = rw_ s))
    ∧ (rb = 1 → fl0 < fl4 ∧ (bd2 = 1 ∧ kk_ q4.1 q4.2 ≤ kk_ q3.1 q3.2 ∨ kk_ q4.1 q4.2 ≤ 8 * p2 + 5 ∨ kk_ q4.1 q4.2 ≤ 8 * p1 + 5))
    ∧ (rb = 0 ∨ rb = 1) ∧ fl4 ≤ fl3 + 1 ∧ fl2 ≤ fl1 + 1 := by
  have eF : F2 = if bd1 = 0 ∧ t1 ≠ rw_ s then min F (8 * p1 + 5) else F := by
    rw [hF2]
    by_cases c : bd1 = 0 ∧ t1 ≠ rw_ s
    · rw [if_neg (fun h => x1.mp h c), if_pos c]
    · rw [if_pos (x1.mpr c), if_neg c]
  have ef2 : fl2 = if bd1 = 0 ∧ t1 ≠ rw_ s then fl1 + 1 else fl1 := by
    rw [f2]
    by_cases c : bd1 = 0 ∧ t1 ≠ rw_ s
    · rw [if_neg (fun h => x1.mp h c), if_pos c]
    · rw [if_pos (x1.mpr c), if_neg c]
  have e4 : kx4 = if bd2 = 0 ∧ t2 ≠ rw_ s then min kx3 (8 * p2 + 5) else kx3 := by
    rw [h4]
    by_cases c : bd2 = 0 ∧ t2 ≠ rw_ s
    · rw [if_neg (fun h => x2.mp h c), if_pos c]
    · rw [if_pos (x2.mpr c), if_neg c]
  have ef4 : fl4 = if bd2 = 0 ∧ t2 ≠ rw_ s then fl3 + 1 else fl3 := by
    rw [f4]
    by_cases c : bd2 = 0 ∧ t2 ≠ rw_ s
    · rw [if_neg (fun h => x2.mp h c), if_pos c]
    · rw [if_pos (x2.mpr c), if_neg c]
  rw [← erq] at hv4 k3
  have kx := bin_kx eF h3 e4 k3
  have fl := bin_fl b1 b2 f1 ef2 f3 ef4
  rw [if_neg any]
  refine ⟨hv4, kx.1, fun hrb => ?_, fun hrb => ?_, ?_, fl.2.2.1, fl.2.2.2⟩
  · rw [erb] at hrb
    by_cases nb : bd1 = 0 ∧ bd2 = 0 ∧ t1 = rw_ s ∧ t2 = rw_ s
    · refine ⟨?_, fl.1 nb.1 nb.2.1 (fun h => h.2 nb.2.2.1) (fun h => h.2 nb.2.2.2), nb.1, nb.2.1, nb.2.2.1, nb.2.2.2⟩
      rw [erq]; unfold aq_; rw [if_neg (fun h => h.2 nb.2.2.2), if_neg (fun h => h.2 nb.2.2.1)]
    · rw [if_neg nb] at hrb; exact absurd hrb (by decide)
  · rw [erb] at hrb
    by_cases nb : bd1 = 0 ∧ bd2 = 0 ∧ t1 = rw_ s ∧ t2 = rw_ s
    · rw [if_pos nb] at hrb; exact absurd hrb (by decide)
    · by_cases n1 : bd1 = 0 ∧ t1 ≠ rw_ s
      · exact ⟨fl.2.1 (.inr (.inr (.inl n1))), .inr (.inr (kx.2.2.1 n1))⟩
      · by_cases n2 : bd2 = 0 ∧ t2 ≠ rw_ s
        · exact ⟨fl.2.1 (.inr (.inr (.inr n2))), .inr (.inl (kx.2.2.2 n2))⟩
        · rcases b2 with h | h
          · have hb1 : bd1 = 1 := by
              rcases b1 with h' | h'
              · exfalso; apply nb
                exact ⟨h', h, Classical.byContradiction fun h9 => n1 ⟨h', h9⟩, Classical.byContradiction fun h9 => n2 ⟨h, h9⟩⟩
              · exact h'
            have h8 := hx hb1 h
            have h7 := kx.2.1
            exact ⟨fl.2.1 (.inl hb1), .inr (.inl (by clear eF ef2 e4 ef4 kx fl f1 f2 f3 f4 hF2 h3 h4 x1 x2 hx erb; omega))⟩
          · exact ⟨fl.2.1 (.inr (.inl h)), .inl ⟨h, kx.2.1⟩⟩
  · rw [erb]; split
    · exact .inl rfl
    · exact .inr rfl
/-- the notes of the two, X's and Q's, and whether something is wrong -/
theorem bin_notes [Inhabited gh_] {F F2 kx1 kx3 kx4 : Int} {q3 : Int × Int} {s s1 s2 w w2 p1 p2 t1 t2 bd1 bd2 fl1 fl2 fl3 fl4 fl0 : Int} (hs : 20 ≤ s ∧ s ≤ 32) (hv : vk_ q3.1 q3.2) (hp1 : 0 ≤ p1 ∧ p1 ≤ 5000) (hp2 : 0 ≤ p2 ∧ p2 ≤ 5000) (b1 : bd1 = 0 ∨ bd1 = 1) (b2 : bd2 = 0 ∨ bd2 = 1)
    (hw : w = rw_ s - 1) (hw2 : w2 = if s = 25 ∨ s = 26 then s1 else w)
    (hl : (bd1 = 0 → s1 = t1 - 1 ∧ 1 ≤ t1 ∧ t1 ≤ 3) ∧ (bd1 = 1 → s1 = -1 ∨ (s1 = w ∧ ¬ (s = 25 ∨ s = 26)))) (hr : (bd2 = 0 → s2 = t2 - 1 ∧ 1 ≤ t2 ∧ t2 ≤ 3) ∧ (bd2 = 1 → s2 = -1))
    (hF2 : F2 = if (s = 25 ∨ s = 26) ∨ s1 = -1 ∨ s1 = w then F else min F (8 * p1 + 5)) (h3 : kx3 = min F2 (kk_ q3.1 q3.2)) (h4 : kx4 = if s2 = -1 ∨ s2 = w2 then kx3 else min kx3 (8 * p2 + 5))
    (hx : bd1 = 1 → bd2 = 0 → kk_ q3.1 q3.2 < 8 * p2)
    (f1 : (bd1 = 0 → fl1 = fl0) ∧ (bd1 = 1 → fl0 < fl1)) (f2 : fl2 = if (s = 25 ∨ s = 26) ∨ s1 = -1 ∨ s1 = w then fl1 else fl1 + 1) (f3 : (bd2 = 0 → fl3 = fl2) ∧ (bd2 = 1 → fl2 < fl3)) (f4 : fl4 = if s2 = -1 ∨ s2 = w2 then fl3 else fl3 + 1) :
    vk_ (rq_ 1 q3 s (t1, p1, bd1) (t2, p2, bd2)).1 (rq_ 1 q3 s (t1, p1, bd1) (t2, p2, bd2)).2 ∧ kx4 = min F (kk_ (rq_ 1 q3 s (t1, p1, bd1) (t2, p2, bd2)).1 (rq_ 1 q3 s (t1, p1, bd1) (t2, p2, bd2)).2)
    ∧ (rb_ s (t1, p1, bd1) (t2, p2, bd2) = 0 → rq_ 1 q3 s (t1, p1, bd1) (t2, p2, bd2) = q3 ∧ fl4 = fl0 ∧ bd1 = 0 ∧ bd2 = 0 ∧ (if s = 25 ∨ s = 26 then t1 = t2 else t1 = rw_ s ∧ t2 = rw_ s))
    ∧ (rb_ s (t1, p1, bd1) (t2, p2, bd2) = 1 → fl0 < fl4 ∧ (bd2 = 1 ∧ kk_ (rq_ 1 q3 s (t1, p1, bd1) (t2, p2, bd2)).1 (rq_ 1 q3 s (t1, p1, bd1) (t2, p2, bd2)).2 ≤ kk_ q3.1 q3.2 ∨ kk_ (rq_ 1 q3 s (t1, p1, bd1) (t2, p2, bd2)).1 (rq_ 1 q3 s (t1, p1, bd1) (t2, p2, bd2)).2 ≤ 8 * p2 + 5 ∨ kk_ (rq_ 1 q3 s (t1, p1, bd1) (t2, p2, bd2)).1 (rq_ 1 q3 s (t1, p1, bd1) (t2, p2, bd2)).2 ≤ 8 * p1 + 5))
    ∧ (rb_ s (t1, p1, bd1) (t2, p2, bd2) = 0 ∨ rb_ s (t1, p1, bd1) (t2, p2, bd2) = 1) ∧ fl4 ≤ fl3 + 1 ∧ fl2 ≤ fl1 + 1 := by
  by_cases any : s = 25 ∨ s = 26
  · have erq : rq_ 1 q3 s (t1, p1, bd1) (t2, p2, bd2) = if bd1 = 0 ∧ bd2 = 0 ∧ t1 ≠ t2 then np_ 1 q3 5 p2 else q3 := by unfold rq_; rw [if_pos any]
    have erb : rb_ s (t1, p1, bd1) (t2, p2, bd2) = if bd1 = 0 ∧ bd2 = 0 ∧ t1 = t2 then 0 else 1 := by unfold rb_; rw [if_pos any]
    rw [erq, erb, if_pos any]
    rw [if_pos (.inl any)] at hF2 f2
    rw [if_pos any] at hw2
    by_cases c1 : bd1 = 0 ∧ bd2 = 0
    · have g1 := hl.1 c1.1
      have g2 := hr.1 c1.2
      have g3 := f1.1 c1.1
      have g4 := f3.1 c1.2
      by_cases c2 : t1 = t2
      · rw [if_neg (fun h => h.2.2 c2), if_pos ⟨c1.1, c1.2, c2⟩]
        rw [if_pos (by omega)] at h4 f4
        refine ⟨hv, by omega, fun _ => ⟨rfl, by omega, c1.1, c1.2, c2⟩, fun h => absurd h (by decide), .inl rfl, by omega, by omega⟩
      · rw [if_pos ⟨c1.1, c1.2, c2⟩, if_neg (fun h => c2 h.2.2)]
        rw [if_neg (by omega)] at h4 f4
        have hn := kk_np (q := q3) (k := 5) hv (by decide) (by decide) hp2.1 hp2.2
        refine ⟨hn.2, by rw [hn.1]; omega, fun h => absurd h (by decide), fun _ => ⟨by omega, .inr (.inl (by rw [hn.1]; omega))⟩, .inr rfl, by omega, by omega⟩
    · rw [if_neg (fun h => c1 ⟨h.1, h.2.1⟩), if_neg (fun h => c1 ⟨h.1, h.2.1⟩)]
      have g4 : fl2 ≤ fl3 := by rcases b2 with h | h; have := f3.1 h; omega; have := f3.2 h; omega
      have g3 : fl0 ≤ fl1 := by rcases b1 with h | h; have := f1.1 h; omega; have := f1.2 h; omega
      have g5 : fl3 ≤ fl4 ∧ fl4 ≤ fl3 + 1 := by rw [f4]; split <;> omega
      have g6 : fl0 < fl4 := by
        rcases b1 with h | h
        · rcases b2 with h' | h'
          · exact absurd ⟨h, h'⟩ c1
          · have := f3.2 h'; omega
        · have := f1.2 h; omega
      refine ⟨hv, ?_, fun h => absurd h (by decide), fun _ => ⟨g6, ?_⟩, .inr rfl, g5.2, by omega⟩
      · rcases b2 with h | h
        · have hb1 : bd1 = 1 := by rcases b1 with h' | h'; exact absurd ⟨h', h⟩ c1; exact h'
          have := hx hb1 h
          rw [h4]; split <;> omega
        · have := hr.2 h
          rw [if_pos (.inl this)] at h4; omega
      · rcases b2 with h | h
        · have hb1 : bd1 = 1 := by rcases b1 with h' | h'; exact absurd ⟨h', h⟩ c1; exact h'
          have := hx hb1 h
          exact .inr (.inl (by omega))
        · exact .inl ⟨h, Int.le_refl _⟩
  · have k1 := aq_k (q := q3) (x := (t1, p1, bd1)) (w := rw_ s) hv hp1
    have k2 := aq_k (q := aq_ 1 q3 (t1, p1, bd1) (rw_ s)) (x := (t2, p2, bd2)) (w := rw_ s) k1.1 hp2
    have erq : rq_ 1 q3 s (t1, p1, bd1) (t2, p2, bd2) = aq_ 1 (aq_ 1 q3 (t1, p1, bd1) (rw_ s)) (t2, p2, bd2) (rw_ s) := by unfold rq_; rw [if_neg any]
    have erb : rb_ s (t1, p1, bd1) (t2, p2, bd2) = if bd1 = 0 ∧ bd2 = 0 ∧ t1 = rw_ s ∧ t2 = rw_ s then 0 else 1 := by unfold rb_; rw [if_neg any]
    rw [if_neg any] at hw2
    have k3 := k2.2
    rw [k1.2] at k3
    simp only [] at k3
    have x1 := bin_x1 any b1 hw hl
    have x2 := bin_x2 b2 (hw2.trans hw) hr
    exact bin_o any hv b1 b2 erq erb k2.1 k3 x1 x2 hF2 h3 h4 hx f1 f2 f3 f4
end EB
end T70_er
