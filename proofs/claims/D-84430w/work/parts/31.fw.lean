/-! WORKING WITH THE PURE MACHINE -/
/-- an array, or an object, as a whole -/
def wr_ (M : mm_) (r : Nat) (f : Int → Int) : mm_ := fun r' => if r' = r then f else M r'
def su_ (f : Int → Int) (i v : Int) : Int → Int := fun j => if j = i then v else f j
theorem uw_ {M : mm_} {r : Nat} {i v : Int} : up_ M r i v = wr_ M r (su_ (M r) i v) := by
  funext r' j
  unfold up_ wr_ su_
  split <;> rfl
theorem wr_at {M : mm_} {r : Nat} {f : Int → Int} {r' : Nat} : wr_ M r f r' = if r' = r then f else M r' := rfl
theorem wr_same {M : mm_} {r : Nat} {f : Int → Int} : wr_ M r f r = f := if_pos rfl
theorem wr_ne {M : mm_} {r : Nat} {f : Int → Int} {r' : Nat} (h : r' ≠ r) : wr_ M r f r' = M r' := if_neg h
theorem wr_id {M : mm_} {r : Nat} : wr_ M r (M r) = M := by
  funext r'; unfold wr_; split
  · rename_i h; rw [h]
  · rfl
theorem wr_wr {M : mm_} {r : Nat} {f g : Int → Int} : wr_ (wr_ M r f) r g = wr_ M r g := by
  funext r'; unfold wr_; split <;> rfl
theorem ua_ {M : mm_} {r : Nat} {i v : Int} {r' : Nat} {j : Int} : up_ M r i v r' j = if r' = r then (if j = i then v else M r j) else M r' j := by
  unfold up_; split <;> rfl
theorem su_at {f : Int → Int} {i v j : Int} : su_ f i v j = if j = i then v else f j := rfl
/-- method n, called at M, ends with vs and M' -/
def Ex_ (d n : Nat) (args : List pv_) (M : mm_) (vs : List pv_) (M' : mm_) : Prop := ∀ (Qr : qr_) (Qt : qt_), Qr vs M' → Tr_ wd0 pg0 d n args M Qr Qt
/-- within method n: from one place to another one -/
def Rc_ (d n pc : Nat) (ls : lo_) (M : mm_) (pc' : Nat) (ls' : lo_) (M' : mm_) : Prop := ∀ (V : vv_) (Qr : qr_) (Qt : qt_), Cl_ wd0 (Tr_ wd0 pg0 d) V Qr Qt (pg0 n) → Wk_ V → V pc' ls' [] M' → V pc ls [] M
theorem Rc_rfl {d n pc : Nat} {ls : lo_} {M : mm_} : Rc_ d n pc ls M pc ls M := fun _ _ _ _ _ h => h
theorem Rc_tr {d n pc pc' pc'' : Nat} {ls ls' ls'' : lo_} {M M' M'' : mm_} (h1 : Rc_ d n pc ls M pc' ls' M') (h2 : Rc_ d n pc' ls' M' pc'' ls'' M'') : Rc_ d n pc ls M pc'' ls'' M'' := fun V Qr Qt hV hW h => h1 V Qr Qt hV hW (h2 V Qr Qt hV hW h)
theorem Ex_le {d d' n : Nat} {args : List pv_} {M M' : mm_} {vs : List pv_} (h : d ≤ d') (hx : Ex_ d n args M vs M') : Ex_ d' n args M vs M' := fun Qr Qt hq => Tr_le h (hx Qr Qt hq)
theorem ri_i {K : Int → mm_ → Prop} {x : Int} {M : mm_} (h : K x M) : ri_ K [.inl x] M := ⟨x, rfl, h⟩
theorem rl_i {K : Int → mm_ → Prop} {x : Int} {M : mm_} (h : K x M) : rl_ K [.inr (.inl x)] M := ⟨x, rfl, h⟩
theorem rf_i {K : Nat → mm_ → Prop} {x : Nat} {M : mm_} (h : K x M) : rf_r K [.inr (.inr x)] M := ⟨x, rfl, h⟩
theorem rv_i {K : mm_ → Prop} {M : mm_} (h : K M) : rv_ K [] M := ⟨rfl, h⟩
theorem Tr_m {d n : Nat} {args : List pv_} {M : mm_} {Qr Qr' : qr_} {Qt Qt' : qt_} (h : Tr_ wd0 pg0 d n args M Qr Qt) (hr : ∀ vs M, Qr vs M → Qr' vs M) (ht : ∀ r M, Qt r M → Qt' r M) : Tr_ wd0 pg0 d n args M Qr' Qt' := Tr_mono d n args M Qr Qr' Qt Qt' hr ht h
/-! bits -/
theorem bv_n {a : Nat} : (Int32.ofInt (a : Int)).toBitVec = BitVec.ofNat 32 a := by
  apply BitVec.eq_of_toInt_eq
  rw [Int32.toBitVec_ofInt]
  simp
theorem ti_n {b : BitVec 32} (h : b.toNat < 2147483648) : b.toInt = (b.toNat : Int) := by
  rw [BitVec.toInt_eq_toNat_cond]; split <;> omega
theorem an_nat {a b : Nat} (ha : a < 2147483648) (hb : b < 2147483648) : an_ (a : Int) (b : Int) = ((a &&& b : Nat) : Int) := by
  unfold an_
  show (Int32.toBitVec (_ &&& _)).toInt = _
  have h1 : (Int32.ofInt (a : Int) &&& Int32.ofInt (b : Int)).toBitVec.toNat = a &&& b := by
    rw [Int32.toBitVec_and, bv_n, bv_n, BitVec.toNat_and, BitVec.toNat_ofNat, BitVec.toNat_ofNat, Nat.mod_eq_of_lt (by omega), Nat.mod_eq_of_lt (by omega)]
  rw [ti_n (by rw [h1]; exact Nat.lt_of_le_of_lt Nat.and_le_left ha), h1]
theorem or_nat {a b : Nat} (ha : a < 2147483648) (hb : b < 2147483648) : or_ (a : Int) (b : Int) = ((a ||| b : Nat) : Int) := by
  unfold or_
  show (Int32.toBitVec (_ ||| _)).toInt = _
  have h1 : (Int32.ofInt (a : Int) ||| Int32.ofInt (b : Int)).toBitVec.toNat = a ||| b := by
    rw [Int32.toBitVec_or, bv_n, bv_n, BitVec.toNat_or, BitVec.toNat_ofNat, BitVec.toNat_ofNat, Nat.mod_eq_of_lt (by omega), Nat.mod_eq_of_lt (by omega)]
  rw [ti_n (by rw [h1]; exact Nat.or_lt_two_pow (n := 31) ha hb), h1]
theorem an255 {x : Int} (h1 : -128 ≤ x) (h2 : x ≤ 127) : an_ x 255 = x % 256 := by
  have h : ∀ k : Fin 256, an_ ((k.val : Int) - 128) 255 = ((k.val : Int) - 128) % 256 := by decide +kernel
  have h3 := h ⟨(x + 128).toNat, by omega⟩
  have h4 : (((x + 128).toNat : Nat) : Int) - 128 = x := by omega
  simp only [h4] at h3
  exact h3
theorem sl_1 {k : Nat} (hk : k < 31) : sl_ 1 (k : Int) = ((2 ^ k : Nat) : Int) := by
  have h : ∀ k : Fin 31, sl_ 1 ((k.val : Nat) : Int) = ((2 ^ k.val : Nat) : Int) := by decide +kernel
  exact h ⟨k, hk⟩
theorem sh_amt {k : Nat} (hk : k < 32) : ((Int32.ofInt (k : Int) &&& 31).toBitVec.smod 32).toNat = k := by
  have h : ∀ k : Fin 32, ((Int32.ofInt ((k.val : Nat) : Int) &&& 31).toBitVec.smod 32).toNat = k.val := by decide +kernel
  exact h ⟨k, hk⟩
theorem sr_nat {a k : Nat} (ha : a < 2147483648) (hk : k < 32) : sr_ (a : Int) (k : Int) = ((a >>> k : Nat) : Int) := by
  unfold sr_
  show (Int32.toBitVec (_ >>> _)).toInt = _
  rw [Int32.toBitVec_shiftRight]
  have h9 := sh_amt hk
  simp only [BitVec.sshiftRight_eq', h9]
  rw [BitVec.toInt_sshiftRight, bv_n]
  have : (BitVec.ofNat 32 a).toInt = (a : Int) := by
    rw [ti_n (by rw [BitVec.toNat_ofNat]; omega), BitVec.toNat_ofNat, Nat.mod_eq_of_lt (by omega)]
  rw [this]
  rfl
