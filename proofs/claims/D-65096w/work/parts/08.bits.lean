/-! numbers of 32 and 64 bits and whole numbers -/
theorem zi_eq (x : Int) : zi x = x.bmod 4294967296 := by
  unfold zi Int.bmod
  simp only [Int.ofNat_eq_natCast]
  split <;> omega
theorem zl_eq (x : Int) : zl x = x.bmod 18446744073709551616 := by
  unfold zl Int.bmod
  simp only [Int.ofNat_eq_natCast]
  split <;> omega
theorem zb_eq (x : Int) : zb x = x.bmod 256 := by
  unfold zb Int.bmod
  simp only [Int.ofNat_eq_natCast]
  split <;> omega
theorem zi_ok (x : Int) : zOv (0, zi x) := by simp only [zOv, zi]; omega
theorem zl_ok (x : Int) : zOv (1, zl x) := by simp only [zOv, zl]; omega
theorem zi_id {x : Int} (h1 : -2147483648 ≤ x) (h2 : x ≤ 2147483647) : zi x = x := by unfold zi; omega
theorem zl_id {x : Int} (h1 : -9223372036854775808 ≤ x) (h2 : x ≤ 9223372036854775807) : zl x = x := by unfold zl; omega
theorem zo32 (x : Int) : Int32.ofInt (zi x) = Int32.ofInt x := by
  apply Int32.toInt.inj
  simp [zi_eq]
theorem zo64 (x : Int) : Int64.ofInt (zl x) = Int64.ofInt x := by
  apply Int64.toInt.inj
  simp [zl_eq]
theorem zt32 {x : Int} (h : zOv (0, x)) : (Int32.ofInt x).toInt = x := Int32.toInt_ofInt_of_le (by have := h.1; omega) (by have := h.2; simp only at this; omega)
theorem zt64 {x : Int} (h : zOv (1, x)) : (Int64.ofInt x).toInt = x := Int64.toInt_ofInt_of_le (by have := h.1; omega) (by have := h.2; simp only at this; omega)
theorem zlt32 {x y : Int} (hx : zOv (0, x)) (hy : zOv (0, y)) : (Int32.ofInt x < Int32.ofInt y) ↔ x < y := by rw [Int32.lt_iff_toInt_lt, zt32 hx, zt32 hy]
theorem zle32 {x y : Int} (hx : zOv (0, x)) (hy : zOv (0, y)) : (Int32.ofInt x ≤ Int32.ofInt y) ↔ x ≤ y := by rw [Int32.le_iff_toInt_le, zt32 hx, zt32 hy]
theorem zeq32 {x y : Int} (hx : zOv (0, x)) (hy : zOv (0, y)) : (Int32.ofInt x = Int32.ofInt y) ↔ x = y := by rw [← Int32.toInt_inj, zt32 hx, zt32 hy]
theorem zlt64 {x y : Int} (hx : zOv (1, x)) (hy : zOv (1, y)) : (Int64.ofInt x < Int64.ofInt y) ↔ x < y := by rw [Int64.lt_iff_toInt_lt, zt64 hx, zt64 hy]
theorem zeq64 {x y : Int} (hx : zOv (1, x)) (hy : zOv (1, y)) : (Int64.ofInt x = Int64.ofInt y) ↔ x = y := by rw [← Int64.toInt_inj, zt64 hx, zt64 hy]
theorem zdiv32 {x y : Int} (hx : zOv (0, x)) (hy : zOv (0, y)) : Int32.ofInt (zi (Int.tdiv x y)) = Int32.ofInt x / Int32.ofInt y := by
  apply Int32.toInt.inj
  simp [zi_eq, zt32 hx, zt32 hy]
theorem zdiv64 {x y : Int} (hx : zOv (1, x)) (hy : zOv (1, y)) : Int64.ofInt (zl (Int.tdiv x y)) = Int64.ofInt x / Int64.ofInt y := by
  apply Int64.toInt.inj
  simp [zl_eq, zt64 hx, zt64 hy]
theorem zrem32 {x y : Int} (hx : zOv (0, x)) (hy : zOv (0, y)) : Int32.ofInt (Int.tmod x y) = Int32.ofInt x - Int32.ofInt x / Int32.ofInt y * Int32.ofInt y := by
  rw [← zdiv32 hx hy, zo32, ← Int32.ofInt_mul, ← Int32.ofInt_sub, Int.tmod_def, Int.mul_comm]
theorem zrem64 {x y : Int} (hx : zOv (1, x)) (hy : zOv (1, y)) : Int64.ofInt (Int.tmod x y) = Int64.ofInt x - Int64.ofInt x / Int64.ofInt y * Int64.ofInt y := by
  rw [← zdiv64 hx hy, zo64, ← Int64.ofInt_mul, ← Int64.ofInt_sub, Int.tmod_def, Int.mul_comm]
theorem zi2l {x : Int} (hx : zOv (0, x)) : (Int32.ofInt x).toInt64 = Int64.ofInt x := by
  rw [← Int64.ofInt_int32ToInt, zt32 hx]
theorem zl2i (x : Int) : (Int64.ofInt x).toInt32 = Int32.ofInt (zi x) := by rw [zo32, Int64.toInt32_ofInt]
theorem zi2b (x : Int) : (Int32.ofInt x).toInt8.toInt32 = Int32.ofInt (zb x) := by
  apply Int32.toInt.inj
  rw [Int8.toInt_toInt32, Int32.toInt8_ofInt, Int8.toInt_ofInt, zt32 (by simp only [zOv, zb]; omega), zb_eq]
theorem zand32 (x y : Int) : Int32.ofInt (zan x y) = Int32.ofInt x &&& Int32.ofInt y := by unfold zan; rw [Int32.ofInt_toInt]
theorem zor32 (x y : Int) : Int32.ofInt (zor x y) = Int32.ofInt x ||| Int32.ofInt y := by unfold zor; rw [Int32.ofInt_toInt]
theorem zxor32 (x y : Int) : Int32.ofInt (zxr x y) = Int32.ofInt x ^^^ Int32.ofInt y := by unfold zxr; rw [Int32.ofInt_toInt]
theorem zand64 (x y : Int) : Int64.ofInt (zaN x y) = Int64.ofInt x &&& Int64.ofInt y := by unfold zaN; rw [Int64.ofInt_toInt]
theorem zor64 (x y : Int) : Int64.ofInt (zoR x y) = Int64.ofInt x ||| Int64.ofInt y := by unfold zoR; rw [Int64.ofInt_toInt]
theorem zxor64 (x y : Int) : Int64.ofInt (zxR x y) = Int64.ofInt x ^^^ Int64.ofInt y := by unfold zxR; rw [Int64.ofInt_toInt]
theorem zand_ok (x y : Int) : zOv (0, zan x y) := ⟨Int32.le_toInt _, Int32.toInt_le _⟩
theorem zor_ok (x y : Int) : zOv (0, zor x y) := ⟨Int32.le_toInt _, Int32.toInt_le _⟩
theorem zxr_ok (x y : Int) : zOv (0, zxr x y) := ⟨Int32.le_toInt _, Int32.toInt_le _⟩
theorem zaN_ok (x y : Int) : zOv (1, zaN x y) := ⟨Int64.le_toInt _, Int64.toInt_le _⟩
theorem zoR_ok (x y : Int) : zOv (1, zoR x y) := ⟨Int64.le_toInt _, Int64.toInt_le _⟩
theorem zxR_ok (x y : Int) : zOv (1, zxR x y) := ⟨Int64.le_toInt _, Int64.toInt_le _⟩
theorem zmaskbv (w k : Nat) (hk : k ≤ w) (x : Int) : BitVec.ofInt w x &&& BitVec.ofInt w (2 ^ k - 1) = BitVec.ofInt w (x % 2 ^ k) := by
  apply BitVec.eq_of_toNat_eq
  simp only [BitVec.toNat_and, BitVec.toNat_ofInt]
  have hp : 0 < 2 ^ k := Nat.two_pow_pos k
  have hle : 2 ^ k ≤ 2 ^ w := Nat.pow_le_pow_right (by decide) hk
  have h2 : ((2 : Int) ^ k - 1) = ((2 ^ k - 1 : Nat) : Int) := by
    rw [Int.natCast_sub hp]; simp
  rw [h2, ← Int.natCast_emod, Int.toNat_natCast, Nat.mod_eq_of_lt (by omega), Nat.and_two_pow_sub_one_eq_mod]
  have hk0 : (0 : Int) < 2 ^ k := by have : ((2 ^ k : Nat) : Int) = 2 ^ k := by simp
                                     omega
  have hc : ((2 ^ k : Nat) : Int) = (2 : Int) ^ k := by simp
  have hlt := Int.emod_lt_of_pos x hk0
  have hge := Int.emod_nonneg x (Int.ne_of_gt hk0)
  have h3 : x % 2 ^ k % ((2 ^ w : Nat) : Int) = x % 2 ^ k := Int.emod_eq_of_lt hge (by
    have : ((2 ^ k : Nat) : Int) ≤ ((2 ^ w : Nat) : Int) := Int.ofNat_le.mpr hle
    omega)
  rw [h3]
  have h4 : x % ((2 ^ w : Nat) : Int) % ((2 ^ k : Nat) : Int) = x % ((2 ^ k : Nat) : Int) := Int.emod_emod_of_dvd x (Int.natCast_dvd_natCast.mpr (Nat.pow_dvd_pow 2 hk))
  have hw0 : (0 : Int) ≤ x % ((2 ^ w : Nat) : Int) := Int.emod_nonneg x (by have := Nat.two_pow_pos w; omega)
  rw [← hc, ← h4, Int.toNat_emod hw0 (Int.natCast_nonneg _), Int.toNat_natCast]
theorem zmask32 {x m P : Int} {k : Nat} (hk : k ≤ 31) (hP : P = 2 ^ k) (hm : m = P - 1) : Int32.ofInt (x % P) = Int32.ofInt x &&& Int32.ofInt m := by
  subst hm; subst hP
  apply Int32.toBitVec.inj
  exact (zmaskbv 32 k (by omega) x).symm
theorem zmask64 {x m P : Int} {k : Nat} (hk : k ≤ 63) (hP : P = 2 ^ k) (hm : m = P - 1) : Int64.ofInt (x % P) = Int64.ofInt x &&& Int64.ofInt m := by
  subst hm; subst hP
  apply Int64.toBitVec.inj
  exact (zmaskbv 64 k (by omega) x).symm
theorem zmask32_ok {x P : Int} {k : Nat} (hk : k ≤ 31) (hP : P = 2 ^ k) : zOv (0, x % P) := by
  subst hP
  have hc : ((2 ^ k : Nat) : Int) = (2 : Int) ^ k := by simp
  have h1 : 0 < 2 ^ k := Nat.two_pow_pos k
  have h2 : 2 ^ k ≤ 2 ^ 31 := Nat.pow_le_pow_right (by decide) hk
  have h3 := Int.emod_lt_of_pos x (show (0 : Int) < 2 ^ k by omega)
  have h4 := Int.emod_nonneg x (show (2 : Int) ^ k ≠ 0 by omega)
  constructor
  · show -2147483648 ≤ x % 2 ^ k
    omega
  · show x % 2 ^ k ≤ 2147483647
    omega
theorem zmask64_ok {x P : Int} {k : Nat} (hk : k ≤ 63) (hP : P = 2 ^ k) : zOv (1, x % P) := by
  subst hP
  have hc : ((2 ^ k : Nat) : Int) = (2 : Int) ^ k := by simp
  have h1 : 0 < 2 ^ k := Nat.two_pow_pos k
  have h2 : 2 ^ k ≤ 2 ^ 63 := Nat.pow_le_pow_right (by decide) hk
  have h3 := Int.emod_lt_of_pos x (show (0 : Int) < 2 ^ k by omega)
  have h4 := Int.emod_nonneg x (show (2 : Int) ^ k ≠ 0 by omega)
  constructor
  · show -9223372036854775808 ≤ x % 2 ^ k
    omega
  · show x % 2 ^ k ≤ 9223372036854775807
    omega
theorem znot32 {x : Int} (hx : zOv (0, x)) : Int32.ofInt (-1 - x) = Int32.ofInt x ^^^ Int32.ofInt (-1) := by
  apply Int32.toBitVec.inj
  show BitVec.ofInt 32 (-1 - x) = BitVec.ofInt 32 x ^^^ BitVec.ofInt 32 (-1)
  rw [show BitVec.ofInt 32 (-1) = BitVec.allOnes 32 from rfl, BitVec.xor_allOnes]
  apply BitVec.eq_of_toInt_eq
  rw [BitVec.toInt_not]
  simp only [BitVec.toInt_ofInt, BitVec.toNat_ofInt]
  have h1 := hx.1
  have h2 := hx.2
  simp only at h1 h2
  unfold Int.bmod
  simp only [Int.ofNat_eq_natCast]
  split <;> split <;> omega
theorem zamt32 (s : Int) : (Int32.ofInt s &&& 31) = Int32.ofInt (s % 32) := (zmask32 (x := s) (m := 31) (P := 32) (k := 5) (by decide) (by decide) (by decide)).symm
theorem zamt64 {s : Int} (hs : zOv (0, s)) : ((Int32.ofInt s).toInt64 &&& 63) = Int64.ofInt (s % 64) := by
  rw [zi2l hs]
  exact (zmask64 (x := s) (m := 63) (P := 64) (k := 6) (by decide) (by decide) (by decide)).symm
theorem zsmod32 : ∀ n : Fin 32, ((BitVec.ofNat 32 n.1).smod 32#32).toNat = n.1 := by decide +kernel
theorem zsmod64 : ∀ n : Fin 64, ((BitVec.ofNat 64 n.1).smod 64#64).toNat = n.1 := by decide +kernel
theorem zofmod (w : Nat) {s : Int} {n : Nat} (h : s = (n : Int)) : BitVec.ofInt w s = BitVec.ofNat w n := by subst h; exact BitVec.ofInt_natCast ..
theorem zshlbv (w n : Nat) (x : Int) : BitVec.ofInt w (x * 2 ^ n) = BitVec.ofInt w x <<< n := by
  apply BitVec.eq_of_toNat_eq
  simp only [BitVec.toNat_shiftLeft, BitVec.toNat_ofInt, Nat.shiftLeft_eq]
  have hw : (0 : Int) < ((2 ^ w : Nat) : Int) := by have := Nat.two_pow_pos w; omega
  have h0 := Int.emod_nonneg x (Int.ne_of_gt hw)
  have h1 := Int.emod_nonneg (x * 2 ^ n) (Int.ne_of_gt hw)
  apply Int.ofNat_inj.mp
  rw [Int.toNat_of_nonneg h1, Int.natCast_emod, Int.natCast_mul, Int.toNat_of_nonneg h0]
  simp [Int.mul_emod]
theorem zshl32 (x s : Int) : Int32.ofInt (zi (x * 2 ^ (s % 32).toNat)) = Int32.ofInt x <<< (Int32.ofInt s &&& 31) := by
  rw [zo32, zamt32]
  apply Int32.toBitVec.inj
  show BitVec.ofInt 32 _ = BitVec.ofInt 32 x <<< ((BitVec.ofInt 32 (s % 32)).smod 32#32)
  have hn : (s % 32).toNat < 32 := by omega
  rw [zofmod 32 (show s % 32 = (((s % 32).toNat : Nat) : Int) by omega), BitVec.shiftLeft_eq', zsmod32 ⟨_, hn⟩, zshlbv]
theorem zshl64 (x : Int) {s : Int} (hs : zOv (0, s)) : Int64.ofInt x <<< ((Int32.ofInt s).toInt64 &&& 63) = Int64.ofInt (zl (x * 2 ^ (s % 64).toNat)) := by
  rw [zo64, zamt64 hs]
  apply Int64.toBitVec.inj
  show BitVec.ofInt 64 x <<< ((BitVec.ofInt 64 (s % 64)).smod 64#64) = BitVec.ofInt 64 _
  have hn : (s % 64).toNat < 64 := by omega
  rw [zofmod 64 (show s % 64 = (((s % 64).toNat : Nat) : Int) by omega), BitVec.shiftLeft_eq', zsmod64 ⟨_, hn⟩, zshlbv]
theorem zshr_ok {x lo hi : Int} (n : Nat) (hlo : lo ≤ 0) (hhi : 0 ≤ hi) (h1 : lo ≤ x) (h2 : x ≤ hi) : lo ≤ x / 2 ^ n ∧ x / 2 ^ n ≤ hi := by
  have hp : (0 : Int) < 2 ^ n := by have : ((2 ^ n : Nat) : Int) = (2 : Int) ^ n := by simp
                                    have := Nat.two_pow_pos n
                                    omega
  constructor
  · rw [Int.le_ediv_iff_mul_le hp]
    have : lo * 2 ^ n ≤ lo * 1 := Int.mul_le_mul_of_nonpos_left hlo (by omega)
    omega
  · rcases Int.lt_or_le x 0 with h | h
    · have := Int.ediv_neg_of_neg_of_pos h hp
      omega
    · exact Int.le_trans (Int.ediv_le_self _ h) h2
theorem zshr32 {x : Int} (hx : zOv (0, x)) (s : Int) : Int32.ofInt (x / 2 ^ (s % 32).toNat) = Int32.ofInt x >>> (Int32.ofInt s &&& 31) := by
  rw [zamt32]
  apply Int32.toInt.inj
  have hn : (s % 32).toNat < 32 := by omega
  have h1 := zshr_ok (s % 32).toNat (by decide) (by decide) hx.1 hx.2
  rw [zt32 (show zOv (0, _) from h1)]
  show _ = (BitVec.sshiftRight' (BitVec.ofInt 32 x) ((BitVec.ofInt 32 (s % 32)).smod 32#32)).toInt
  rw [zofmod 32 (show s % 32 = (((s % 32).toNat : Nat) : Int) by omega), BitVec.sshiftRight_eq', zsmod32 ⟨_, hn⟩, BitVec.toInt_sshiftRight, Int.shiftRight_eq_div_pow]
  have h2 : (BitVec.ofInt 32 x).toInt = x := zt32 hx
  rw [h2]
  simp
theorem zshr64 {x s : Int} (hx : zOv (1, x)) (hs : zOv (0, s)) : Int64.ofInt x >>> ((Int32.ofInt s).toInt64 &&& 63) = Int64.ofInt (x / 2 ^ (s % 64).toNat) := by
  rw [zamt64 hs]
  apply Int64.toInt.inj
  have hn : (s % 64).toNat < 64 := by omega
  have h1 := zshr_ok (s % 64).toNat (by decide) (by decide) hx.1 hx.2
  rw [zt64 (show zOv (1, _) from h1)]
  show (BitVec.sshiftRight' (BitVec.ofInt 64 x) ((BitVec.ofInt 64 (s % 64)).smod 64#64)).toInt = _
  rw [zofmod 64 (show s % 64 = (((s % 64).toNat : Nat) : Int) by omega), BitVec.sshiftRight_eq', zsmod64 ⟨_, hn⟩, BitVec.toInt_sshiftRight, Int.shiftRight_eq_div_pow]
  have h2 : (BitVec.ofInt 64 x).toInt = x := zt64 hx
  rw [h2]
  simp
theorem zushr64 (x : Int) {s : Int} {n : Nat} {P : Int} (hs : s = (n : Int)) (hn : 0 < n ∧ n < 64) (hP : P = 2 ^ n) : ((Int64.ofInt x).toUInt64 >>> ((Int32.ofInt s).toInt64.toUInt64 &&& Int64.toUInt64 63)).toInt64 = Int64.ofInt (x % 18446744073709551616 / P) := by
  subst hs; subst hP
  have hz : zOv (0, (n : Int)) := by simp only [zOv]; omega
  apply Int64.toBitVec.inj
  have e : ((Int32.ofInt (n : Int)).toInt64.toUInt64 &&& Int64.toUInt64 63) = ((Int32.ofInt (n : Int)).toInt64 &&& 63).toUInt64 := rfl
  rw [e, zamt64 hz, show (n : Int) % 64 = (n : Int) by omega]
  show BitVec.ofInt 64 x >>> (BitVec.ofInt 64 (n : Int) % 64#64) = BitVec.ofInt 64 _
  apply BitVec.eq_of_toNat_eq
  have h3 : (BitVec.ofInt 64 (n : Int) % 64#64).toNat = n := by
    rw [BitVec.toNat_umod, BitVec.toNat_ofInt]
    simp
    omega
  rw [BitVec.ushiftRight_eq', h3, BitVec.toNat_ushiftRight, BitVec.toNat_ofInt, BitVec.toNat_ofInt, Nat.shiftRight_eq_div_pow]
  have hc : ((2 ^ n : Nat) : Int) = (2 : Int) ^ n := by simp
  have hp := Nat.two_pow_pos n
  have h0 : (0 : Int) ≤ x % 18446744073709551616 := by omega
  have h4 : (0 : Int) ≤ x % 18446744073709551616 / 2 ^ n := Int.ediv_nonneg h0 (by omega)
  have h5 : x % 18446744073709551616 / 2 ^ n ≤ x % 18446744073709551616 := Int.ediv_le_self _ h0
  rw [Int.emod_eq_of_lt h4 (by omega)]
  apply Int.ofNat_inj.mp
  rw [Int.toNat_of_nonneg h4, Int.natCast_ediv, hc, Int.toNat_of_nonneg (by omega)]
  rfl
theorem zushr_ok (x : Int) {n : Nat} {P : Int} (hn : 0 < n) (hP : P = 2 ^ n) : zOv (1, x % 18446744073709551616 / P) := by
  subst hP
  have hc : ((2 ^ n : Nat) : Int) = (2 : Int) ^ n := by simp
  have hp : 2 ^ 1 ≤ 2 ^ n := Nat.pow_le_pow_right (by decide) hn
  have h0 : (0 : Int) ≤ x % 18446744073709551616 := by omega
  have h4 : (0 : Int) ≤ x % 18446744073709551616 / 2 ^ n := Int.ediv_nonneg h0 (by omega)
  have h5 : x % 18446744073709551616 / 2 ^ n < 9223372036854775808 := by
    apply Int.ediv_lt_of_lt_mul (by omega)
    have : (9223372036854775808 : Int) * 2 ≤ 9223372036854775808 * 2 ^ n := Int.mul_le_mul_of_nonneg_left (by omega) (by decide)
    omega
  constructor
  · show -9223372036854775808 ≤ x % 18446744073709551616 / 2 ^ n
    omega
  · show x % 18446744073709551616 / 2 ^ n ≤ 9223372036854775807
    omega
theorem zi2c (x : Int) : ((Int32.ofInt x).toUInt32 % 65536).toInt32 = Int32.ofInt (x % 65536) := by
  apply Int32.toBitVec.inj
  show BitVec.ofInt 32 x % 65536#32 = BitVec.ofInt 32 (x % 65536)
  apply BitVec.eq_of_toNat_eq
  rw [BitVec.toNat_umod, BitVec.toNat_ofInt, BitVec.toNat_ofInt]
  simp
  omega
