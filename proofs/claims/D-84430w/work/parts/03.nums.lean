/-! NUMBERS of the pure machine against the machine's -/
def inI (x : Int) : Prop := -2147483648 ≤ x ∧ x < 2147483648
def inL (x : Int) : Prop := -9223372036854775808 ≤ x ∧ x < 9223372036854775808
theorem w32_bmod (x : Int) : w32 x = x.bmod 4294967296 := by
  unfold w32
  rw [Int.bmod_def]
  split <;> omega
theorem w64_bmod (x : Int) : w64 x = x.bmod 18446744073709551616 := by
  unfold w64
  rw [Int.bmod_def]
  split <;> omega
theorem w32_in (x : Int) : inI (w32 x) := by unfold inI w32; omega
theorem w64_in (x : Int) : inL (w64 x) := by unfold inL w64; omega
theorem w32_id {x : Int} (h1 : -2147483648 ≤ x) (h2 : x < 2147483648) : w32 x = x := by unfold w32; omega
theorem w64_id {x : Int} (h1 : -9223372036854775808 ≤ x) (h2 : x < 9223372036854775808) : w64 x = x := by unfold w64; omega
theorem oI_toInt {x : Int} (h : inI x) : (Int32.ofInt x).toInt = x := by
  rw [Int32.toInt_ofInt]
  have := w32_bmod x
  rw [w32_id h.1 h.2] at this
  exact this.symm
theorem oL_toInt {x : Int} (h : inL x) : (Int64.ofInt x).toInt = x := by
  rw [Int64.toInt_ofInt]
  have := w64_bmod x
  rw [w64_id h.1 h.2] at this
  exact this.symm
theorem toInt_in (x : Int32) : inI x.toInt := ⟨by have := x.le_toInt; omega, by have := x.toInt_lt; omega⟩
theorem toInt_inL (x : Int64) : inL x.toInt := ⟨by have := x.le_toInt; omega, by have := x.toInt_lt; omega⟩
theorem oI_of (x : Int32) {y : Int} (h : x.toInt = y) : x = Int32.ofInt y := by rw [← h]; exact (Int32.ofInt_toInt x).symm
theorem oL_of (x : Int64) {y : Int} (h : x.toInt = y) : x = Int64.ofInt y := by rw [← h]; exact (Int64.ofInt_toInt x).symm
theorem oI_add {x y : Int} (hx : inI x) (hy : inI y) : Int32.ofInt x + Int32.ofInt y = Int32.ofInt (w32 (x + y)) := by
  apply oI_of
  rw [Int32.toInt_add, oI_toInt hx, oI_toInt hy, w32_bmod]
theorem oI_sub {x y : Int} (hx : inI x) (hy : inI y) : Int32.ofInt x - Int32.ofInt y = Int32.ofInt (w32 (x - y)) := by
  apply oI_of
  rw [Int32.toInt_sub, oI_toInt hx, oI_toInt hy, w32_bmod]
theorem oI_mul {x y : Int} (hx : inI x) (hy : inI y) : Int32.ofInt x * Int32.ofInt y = Int32.ofInt (w32 (x * y)) := by
  apply oI_of
  rw [Int32.toInt_mul, oI_toInt hx, oI_toInt hy, w32_bmod]
theorem oI_neg {x : Int} (hx : inI x) : -Int32.ofInt x = Int32.ofInt (w32 (-x)) := by
  apply oI_of
  rw [Int32.toInt_neg, oI_toInt hx, w32_bmod]
theorem oI_div {x y : Int} (hx : inI x) (hy : inI y) : Int32.ofInt x / Int32.ofInt y = Int32.ofInt (w32 (Int.tdiv x y)) := by
  apply oI_of
  rw [Int32.toInt_div, oI_toInt hx, oI_toInt hy, w32_bmod]
theorem oL_add {x y : Int} (hx : inL x) (hy : inL y) : Int64.ofInt x + Int64.ofInt y = Int64.ofInt (w64 (x + y)) := by
  apply oL_of
  rw [Int64.toInt_add, oL_toInt hx, oL_toInt hy, w64_bmod]
theorem oL_sub {x y : Int} (hx : inL x) (hy : inL y) : Int64.ofInt x - Int64.ofInt y = Int64.ofInt (w64 (x - y)) := by
  apply oL_of
  rw [Int64.toInt_sub, oL_toInt hx, oL_toInt hy, w64_bmod]
theorem oL_mul {x y : Int} (hx : inL x) (hy : inL y) : Int64.ofInt x * Int64.ofInt y = Int64.ofInt (w64 (x * y)) := by
  apply oL_of
  rw [Int64.toInt_mul, oL_toInt hx, oL_toInt hy, w64_bmod]
theorem tmod_in {x y : Int} (hx : inI x) (hy : y ≠ 0) : inI (Int.tmod x y) := by
  have h1 : (Int.tmod x y).natAbs ≤ x.natAbs := by
    rw [Int.natAbs_tmod]
    exact Nat.mod_le _ _
  unfold inI at *
  rcases Int.le_total 0 x with h | h
  · have := Int.tmod_nonneg y h
    omega
  · by_cases hx0 : x = -2147483648
    · have h2 : Int.tmod x y ≤ 0 := by
        have := Int.tmod_nonneg y (show 0 ≤ -x by omega)
        rw [Int.neg_tmod] at this
        omega
      omega
    · omega
theorem oI_rem {x y : Int} (hx : inI x) (hy : inI y) (h0 : y ≠ 0) : Int32.ofInt x - Int32.ofInt x / Int32.ofInt y * Int32.ofInt y = Int32.ofInt (Int.tmod x y) := by
  apply oI_of
  rw [Int32.toInt_sub, Int32.toInt_mul, Int32.toInt_div, oI_toInt hx, oI_toInt hy]
  rw [Int.bmod_mul_bmod]
  have h : x - Int.tdiv x y * y = Int.tmod x y := by
    have := Int.mul_tdiv_add_tmod x y
    rw [Int.mul_comm] at this
    omega
  have h2 : (x - (Int.tdiv x y * y).bmod (2 ^ 32)).bmod (2 ^ 32) = (x - Int.tdiv x y * y).bmod (2 ^ 32) := Int.sub_bmod_bmod
  rw [h2, h]
  have := w32_bmod (Int.tmod x y)
  rw [w32_id (tmod_in hx h0).1 (tmod_in hx h0).2] at this
  exact this.symm
theorem oI_lt {x y : Int} (hx : inI x) (hy : inI y) : Int32.ofInt x < Int32.ofInt y ↔ x < y := by
  rw [Int32.lt_iff_toInt_lt, oI_toInt hx, oI_toInt hy]
theorem oI_le {x y : Int} (hx : inI x) (hy : inI y) : Int32.ofInt x ≤ Int32.ofInt y ↔ x ≤ y := by
  rw [Int32.le_iff_toInt_le, oI_toInt hx, oI_toInt hy]
theorem oI_eq {x y : Int} (hx : inI x) (hy : inI y) : Int32.ofInt x = Int32.ofInt y ↔ x = y := by
  constructor
  · intro h
    have := congrArg Int32.toInt h
    rwa [oI_toInt hx, oI_toInt hy] at this
  · intro h
    rw [h]
theorem oL_lt {x y : Int} (hx : inL x) (hy : inL y) : Int64.ofInt x < Int64.ofInt y ↔ x < y := by
  rw [Int64.lt_iff_toInt_lt, oL_toInt hx, oL_toInt hy]
theorem oL_eq {x y : Int} (hx : inL x) (hy : inL y) : Int64.ofInt x = Int64.ofInt y ↔ x = y := by
  constructor
  · intro h
    have := congrArg Int64.toInt h
    rwa [oL_toInt hx, oL_toInt hy] at this
  · intro h
    rw [h]
theorem oI_zero : Int32.ofInt 0 = 0 := rfl
theorem inI_0 : inI 0 := by unfold inI; omega
theorem oI_clamp {x : Int} (hx : inI x) : (Int32.ofInt x).toNatClampNeg = x.toNat := by
  show (Int32.ofInt x).toInt.toNat = x.toNat
  rw [oI_toInt hx]
theorem oI_in {x : Int} (hx : inI x) {n : Nat} (h : 0 ≤ x ∧ x < (n : Int)) : vp_in (Int32.ofInt x) n := by
  unfold vp_in
  rw [oI_clamp hx]
  rintro (h1 | h1)
  · have h2 : Int32.ofInt x < Int32.ofInt 0 := h1
    rw [oI_lt hx inI_0] at h2
    omega
  · omega
theorem i2l_ {x : Int} (hx : inI x) : (Int32.ofInt x).toInt64 = Int64.ofInt x := by
  apply oL_of
  rw [Int32.toInt_toInt64, oI_toInt hx]
theorem l2i_ {x : Int} (hx : inL x) : (Int64.ofInt x).toInt32 = Int32.ofInt (w32 x) := by
  apply oI_of
  rw [Int64.toInt_toInt32, oL_toInt hx, w32_bmod]
theorem i2b_ {x : Int} (hx : inI x) : (Int32.ofInt x).toInt8.toInt32 = Int32.ofInt (ib_ x) := by
  apply oI_of
  rw [Int8.toInt_toInt32, Int32.toInt_toInt8, oI_toInt hx]
  unfold ib_
  rw [Int.bmod_def]
  split <;> omega
theorem an_of {x y : Int} : Int32.ofInt x &&& Int32.ofInt y = Int32.ofInt (an_ x y) := oI_of _ rfl
theorem or_of {x y : Int} : Int32.ofInt x ||| Int32.ofInt y = Int32.ofInt (or_ x y) := oI_of _ rfl
theorem xo_of {x y : Int} : Int32.ofInt x ^^^ Int32.ofInt y = Int32.ofInt (xo_ x y) := oI_of _ rfl
theorem sl_of {x y : Int} : Int32.ofInt x <<< (Int32.ofInt y &&& 31) = Int32.ofInt (sl_ x y) := oI_of _ rfl
theorem sr_of {x y : Int} : Int32.ofInt x >>> (Int32.ofInt y &&& 31) = Int32.ofInt (sr_ x y) := oI_of _ rfl
theorem us_of {x y : Int} : ((Int32.ofInt x).toUInt32 >>> ((Int32.ofInt y).toUInt32 &&& Int32.toUInt32 31)).toInt32 = Int32.ofInt (us_ x y) := oI_of _ rfl
theorem ic_in {x : Int} : inI (ic_ x) := by unfold inI ic_; omega
theorem ib_in {x : Int} : inI (ib_ x) := by unfold inI ib_; omega
theorem i2c_ {x : Int} (hx : inI x) : ((Int32.ofInt x).toUInt32 % 65536).toInt32 = Int32.ofInt (ic_ x) := by
  apply oI_of
  have h1 : ((Int32.ofInt x).toUInt32 % 65536).toNat = (x % 65536).toNat := by
    rw [UInt32.toNat_mod]
    have h2 : ((Int32.ofInt x).toUInt32.toNat : Int) = x % 4294967296 := by
      have h3 : (Int32.ofInt x).toUInt32.toNat = (Int32.ofInt x).toBitVec.toNat := rfl
      rw [h3]
      have h4 : (Int32.ofInt x).toBitVec = BitVec.ofInt 32 x := rfl
      rw [h4, BitVec.toNat_ofInt]
      omega
    show (Int32.ofInt x).toUInt32.toNat % 65536 = (x % 65536).toNat
    omega
  have h5 : (((Int32.ofInt x).toUInt32 % 65536).toInt32).toInt = ((((Int32.ofInt x).toUInt32 % 65536).toNat : Int)).bmod 4294967296 := by
    have h6 : (((Int32.ofInt x).toUInt32 % 65536).toInt32).toInt = ((Int32.ofInt x).toUInt32 % 65536).toBitVec.toInt := rfl
    rw [h6, BitVec.toInt_eq_toNat_bmod]
    rfl
  rw [h5, h1]
  unfold ic_
  rw [Int.bmod_def]
  split <;> omega
