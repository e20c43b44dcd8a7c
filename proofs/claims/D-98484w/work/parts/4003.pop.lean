/-! P2 POP (begins with rows of BITS.to-paste) -/
theorem nx_and (a b : Nat) : nI a &&& nI b = nI (a &&& b) := by
  apply Int32.toBitVec_inj.1
  show BitVec.ofNat 32 a &&& BitVec.ofNat 32 b = BitVec.ofNat 32 (a &&& b)
  apply BitVec.eq_of_getLsbD_eq
  intro i hi
  simp [hi]
theorem wb_tb (n : Nat) : (lN n).toBitVec = BitVec.ofNat 64 n := rfl
theorem wb_inj {a b : Int64} (h : a.toBitVec = b.toBitVec) : a = b := Int64.toBitVec_inj.mp h
theorem wb_tn {n : Nat} (h : n < 2 ^ 64) : (lN n).toBitVec.toNat = n := by rw [wb_tb, BitVec.toNat_ofNat, Nat.mod_eq_of_lt h]
theorem wb_of (x : Int64) : ∃ n, n < 2 ^ 64 ∧ x = lN n := ⟨x.toBitVec.toNat, x.toBitVec.isLt, wb_inj (by rw [wb_tb]; simp)⟩
theorem wb_of32 (x : Int32) : ∃ n, n < 2 ^ 32 ∧ x = nI n := ⟨x.toBitVec.toNat, x.toBitVec.isLt, Int32.toBitVec_inj.mp (by show _ = BitVec.ofNat 32 _; simp)⟩
theorem wb_c : ∀ k, k < 64 → ((nI k).toInt64 &&& 63) = lN k := by decide +kernel
theorem wb_cu : ∀ k, k < 64 → ((nI k).toInt64.toUInt64 &&& Int64.toUInt64 63) = UInt64.ofNat k := by decide +kernel
theorem wb_sm : ∀ k, k < 64 → (BitVec.ofNat 64 k).smod 64 = BitVec.ofNat 64 k := by decide +kernel
theorem wb_pw {a b : Nat} (h : a ≤ b) : 2 ^ b = 2 ^ a * 2 ^ (b - a) := by rw [← Nat.pow_add]; congr 1; omega
theorem wb_lt2 {a b : Nat} (h : a < b) : 2 ^ a < 2 ^ b := Nat.pow_lt_pow_right (by decide) h
theorem wb_mod (n : Nat) : lN n = lN (n % 2 ^ 64) := wb_inj (by rw [wb_tb, wb_tb]; apply BitVec.eq_of_toNat_eq; rw [BitVec.toNat_ofNat, BitVec.toNat_ofNat, Nat.mod_mod])
theorem wb_shr {n k : Nat} (hn : n < 2 ^ 64) (hk : k < 64) : ((lN n).toUInt64 >>> ((nI k).toInt64.toUInt64 &&& Int64.toUInt64 63)).toInt64 = lN (n / 2 ^ k) := by
  rw [wb_cu k hk]
  apply wb_inj
  apply BitVec.eq_of_toNat_eq
  show ((lN n).toUInt64 >>> UInt64.ofNat k).toNat = (BitVec.ofNat 64 _).toNat
  have h1 : (UInt64.ofNat k).toNat = k := by
    show (BitVec.ofNat 64 k).toNat = k
    rw [BitVec.toNat_ofNat, Nat.mod_eq_of_lt (by omega)]
  have h2 : (lN n).toUInt64.toNat = n := wb_tn hn
  rw [UInt64.toNat_shiftRight, h1, h2, Nat.mod_eq_of_lt hk, Nat.shiftRight_eq_div_pow, BitVec.toNat_ofNat, Nat.mod_eq_of_lt (Nat.lt_of_le_of_lt (Nat.div_le_self _ _) hn)]
theorem wb_shl (n : Nat) {k : Nat} (hk : k < 64) : lN n <<< ((nI k).toInt64 &&& 63) = lN (n * 2 ^ k) := by
  rw [wb_c k hk]
  apply wb_inj
  rw [Int64.toBitVec_shiftLeft, wb_tb, wb_tb, wb_tb, wb_sm k hk]
  apply BitVec.eq_of_toNat_eq
  rw [BitVec.shiftLeft_eq', BitVec.toNat_shiftLeft, BitVec.toNat_ofNat, BitVec.toNat_ofNat, BitVec.toNat_ofNat, Nat.mod_eq_of_lt (show k < 2 ^ 64 by omega), Nat.shiftLeft_eq, Nat.mul_mod, Nat.mod_mod, ← Nat.mul_mod]
theorem wb_and {a b : Nat} (ha : a < 2 ^ 64) (hb : b < 2 ^ 64) : lN a &&& lN b = lN (a &&& b) := by
  apply wb_inj
  rw [Int64.toBitVec_and, wb_tb, wb_tb, wb_tb]
  apply BitVec.eq_of_toNat_eq
  rw [BitVec.toNat_and, BitVec.toNat_ofNat, BitVec.toNat_ofNat, BitVec.toNat_ofNat, Nat.mod_eq_of_lt ha, Nat.mod_eq_of_lt hb, Nat.mod_eq_of_lt (Nat.and_lt_two_pow _ hb)]
theorem wb_or {a b : Nat} (ha : a < 2 ^ 64) (hb : b < 2 ^ 64) : lN a ||| lN b = lN (a ||| b) := by
  apply wb_inj
  rw [Int64.toBitVec_or, wb_tb, wb_tb, wb_tb]
  apply BitVec.eq_of_toNat_eq
  rw [BitVec.toNat_or, BitVec.toNat_ofNat, BitVec.toNat_ofNat, BitVec.toNat_ofNat, Nat.mod_eq_of_lt ha, Nat.mod_eq_of_lt hb, Nat.mod_eq_of_lt (Nat.or_lt_two_pow ha hb)]
theorem wb_mask {n k : Nat} (hn : n < 2 ^ 64) (hk : k < 64) : lN n &&& lN (2 ^ k - 1) = lN (n % 2 ^ k) := by
  rw [wb_and hn (by have := wb_lt2 hk; omega), Nat.and_two_pow_sub_one_eq_mod]
theorem wb_a1 {n : Nat} (hn : n < 2 ^ 64) : lN n &&& 1 = lN (n % 2) := wb_mask (k := 1) hn (by decide)
theorem wb_bit {n k : Nat} (hn : n < 2 ^ 64) (hk : k < 64) : ((lN n).toUInt64 >>> ((nI k).toInt64.toUInt64 &&& Int64.toUInt64 63)).toInt64 &&& 1 = lN (n / 2 ^ k % 2) := by
  rw [wb_shr hn hk, wb_a1 (Nat.lt_of_le_of_lt (Nat.div_le_self _ _) hn)]

-- how many bits: what the two bitCounts come to
def mk8 (m : Nat) : Nat → Nat
  | 0 => 0
  | k + 1 => m + 256 * mk8 m k
theorem an_sp (n m : Nat) : n &&& m = (n % 256 &&& m % 256) + 256 * (n / 256 &&& m / 256) := by
  have h1 : (n &&& m) % 2 ^ 8 = n % 2 ^ 8 &&& m % 2 ^ 8 := Nat.and_mod_two_pow
  have h2 : (n &&& m) / 2 ^ 8 = n / 2 ^ 8 &&& m / 2 ^ 8 := Nat.and_div_two_pow
  have h3 := Nat.mod_add_div (n &&& m) 256
  simp only [show (2 : Nat) ^ 8 = 256 from rfl] at h1 h2
  rw [h1, h2] at h3
  exact h3.symm
theorem an_mk {n m k : Nat} (hm : m < 256) : n &&& mk8 m (k + 1) = (n % 256 &&& m) + 256 * (n / 256 &&& mk8 m k) := by
  rw [an_sp, show mk8 m (k + 1) = m + 256 * mk8 m k from rfl, show (m + 256 * mk8 m k) % 256 = m by omega, show (m + 256 * mk8 m k) / 256 = mk8 m k by omega]
theorem pc_a : ∀ b, b < 256 → ∀ e, e < 2 → (b / 2 + 128 * e) &&& 85 = b / 2 &&& 85 := by decide +kernel
theorem pc_b : ∀ a, a < 256 → ∀ e, e < 4 → (a / 4 + 64 * e) &&& 51 = a / 4 &&& 51 := by decide +kernel
def pg1 (b : Nat) : Nat := b - (b / 2 &&& 85)
def pg2 (a : Nat) : Nat := (a &&& 51) + (a / 4 &&& 51)
def pg3 (c : Nat) : Nat := (c + c / 16) &&& 15
theorem pg1_lt : ∀ b, b < 256 → pg1 b < 256 ∧ (b / 2 &&& 85) ≤ b := by decide +kernel
theorem pg2_lt : ∀ b, b < 256 → pg2 (pg1 b) ≤ 68 ∧ pg2 (pg1 b) % 16 ≤ 4 := by decide +kernel
theorem pg3_e : ∀ c, c < 69 → ∀ e, e < 5 → (c + c / 16 + 16 * e) &&& 15 = pg3 c := by decide +kernel
theorem pg_all : ∀ b, b < 256 → pg3 (pg2 (pg1 b)) = fb_ct (fun i => b.testBit i) 8 := by decide +kernel
def ps1 (k n : Nat) : Nat := n - (n / 2 &&& mk8 85 k)
def ps2 (k n : Nat) : Nat := (n &&& mk8 51 k) + (n / 4 &&& mk8 51 k)
def ps3 (k n : Nat) : Nat := (n + n / 16) &&& mk8 15 k
theorem ps1_s {k n : Nat} : ps1 (k + 1) n = pg1 (n % 256) + 256 * ps1 k (n / 256) ∧ (n / 2 &&& mk8 85 (k + 1)) ≤ n := by
  have h : n / 2 &&& mk8 85 (k + 1) = (n % 256 / 2 &&& 85) + 256 * (n / 256 / 2 &&& mk8 85 k) := by
    rw [an_mk (by decide), show n / 2 / 256 = n / 256 / 2 by omega, show n / 2 % 256 = n % 256 / 2 + 128 * (n / 256 % 2) by omega, pc_a _ (by omega) _ (by omega)]
  have h1 := (pg1_lt (n % 256) (by omega)).2
  have h2 : (n / 256 / 2 &&& mk8 85 k) ≤ n / 256 := Nat.le_trans Nat.and_le_left (by omega)
  unfold ps1 pg1
  rw [h]
  omega
theorem ps2_s {k a r : Nat} (ha : a < 256) : ps2 (k + 1) (a + 256 * r) = pg2 a + 256 * ps2 k r := by
  unfold ps2 pg2
  rw [an_mk (by decide), an_mk (by decide), show (a + 256 * r) % 256 = a by omega, show (a + 256 * r) / 256 = r by omega, show (a + 256 * r) / 4 / 256 = r / 4 by omega, show (a + 256 * r) / 4 % 256 = a / 4 + 64 * (r % 4) by omega, pc_b _ ha _ (by omega)]
  omega
theorem ps3_s {k c r : Nat} (hc : c ≤ 68) (hr : r % 16 ≤ 4) : ps3 (k + 1) (c + 256 * r) = pg3 c + 256 * ps3 k r := by
  unfold ps3
  rw [an_mk (by decide), show (c + 256 * r + (c + 256 * r) / 16) % 256 = c + c / 16 + 16 * (r % 16) by omega, show (c + 256 * r + (c + 256 * r) / 16) / 256 = r + r / 16 by omega, pg3_e _ (by omega) _ (by omega)]
theorem ps2_lo {k n : Nat} : ps2 k (ps1 k n) % 16 ≤ 4 := by
  cases k with
  | zero => simp [ps2, mk8]
  | succ k =>
    rw [ps1_s.1, ps2_s (pg1_lt _ (by omega)).1]
    have := (pg2_lt (n % 256) (by omega)).2
    omega
def cb8 (n : Nat) : Nat := fb_ct (fun i => (n % 256).testBit i) 8
theorem cb8_le {n : Nat} : cb8 n ≤ 8 := fb_ct_le _ 8
theorem ps_step {k n : Nat} : ps3 (k + 1) (ps2 (k + 1) (ps1 (k + 1) n)) = cb8 n + 256 * ps3 k (ps2 k (ps1 k (n / 256))) := by
  rw [ps1_s.1, ps2_s (pg1_lt _ (by omega)).1, ps3_s (pg2_lt _ (by omega)).1 ps2_lo, pg_all _ (by omega)]
  rfl
theorem tb_dv (n i : Nat) : (n / 256).testBit i = n.testBit (8 + i) := by
  rw [show (256 : Nat) = 2 ^ 8 from rfl, Nat.testBit_div_two_pow, Nat.add_comm]
theorem tb_md {n i : Nat} (h : i < 8) : (n % 256).testBit i = n.testBit i := by
  rw [show (256 : Nat) = 2 ^ 8 from rfl, Nat.testBit_mod_two_pow]
  simp [h]
theorem ct_dv (n k : Nat) : fb_ct (fun i => n.testBit i) (8 + k) = cb8 n + fb_ct (fun i => (n / 256).testBit i) k := by
  rw [fb_ct_split]
  congr 1
  · exact fb_ct_cong fun i hi => (tb_md hi).symm
  · exact fb_ct_cong fun i _ => (tb_dv n i).symm
theorem pc_64 (n : Nat) : ∃ c0 c1 c2 c3 c4 c5 c6 c7 : Nat, (c0 ≤ 8 ∧ c1 ≤ 8 ∧ c2 ≤ 8 ∧ c3 ≤ 8 ∧ c4 ≤ 8 ∧ c5 ≤ 8 ∧ c6 ≤ 8 ∧ c7 ≤ 8) ∧ fb_ct (fun i => n.testBit i) 64 = c0 + c1 + c2 + c3 + c4 + c5 + c6 + c7 ∧
    ps3 8 (ps2 8 (ps1 8 n)) = c0 + 256 * (c1 + 256 * (c2 + 256 * (c3 + 256 * (c4 + 256 * (c5 + 256 * (c6 + 256 * c7)))))) := by
  refine ⟨cb8 n, cb8 (n / 256), cb8 (n / 256 / 256), cb8 (n / 256 / 256 / 256), cb8 (n / 256 / 256 / 256 / 256), cb8 (n / 256 / 256 / 256 / 256 / 256), cb8 (n / 256 / 256 / 256 / 256 / 256 / 256), cb8 (n / 256 / 256 / 256 / 256 / 256 / 256 / 256), ⟨cb8_le, cb8_le, cb8_le, cb8_le, cb8_le, cb8_le, cb8_le, cb8_le⟩, ?_, ?_⟩
  rotate_left
  · rw [ps_step, ps_step, ps_step, ps_step, ps_step, ps_step, ps_step, ps_step, show ∀ m, ps3 0 m = 0 from fun m => by simp [ps3, mk8], Nat.mul_zero, Nat.add_zero]
  · rw [show (64 : Nat) = 8 + 56 from rfl, ct_dv n 56, show (56 : Nat) = 8 + 48 from rfl, ct_dv _ 48, show (48 : Nat) = 8 + 40 from rfl, ct_dv _ 40, show (40 : Nat) = 8 + 32 from rfl, ct_dv _ 32, show (32 : Nat) = 8 + 24 from rfl, ct_dv _ 24, show (24 : Nat) = 8 + 16 from rfl, ct_dv _ 16, show (16 : Nat) = 8 + 8 from rfl, ct_dv _ 8, show fb_ct (fun i => (n / 256 / 256 / 256 / 256 / 256 / 256 / 256).testBit i) 8 = cb8 (n / 256 / 256 / 256 / 256 / 256 / 256 / 256) from fb_ct_cong fun i hi => (tb_md hi).symm]
    omega
theorem ps1_le (k n : Nat) : ps1 k n ≤ n := Nat.sub_le _ _
theorem pc_lt {c0 c1 c2 c3 c4 c5 c6 c7 : Nat} (h : c0 ≤ 8 ∧ c1 ≤ 8 ∧ c2 ≤ 8 ∧ c3 ≤ 8 ∧ c4 ≤ 8 ∧ c5 ≤ 8 ∧ c6 ≤ 8 ∧ c7 ≤ 8) : ∀ y, y = c0 + 256 * (c1 + 256 * (c2 + 256 * (c3 + 256 * (c4 + 256 * (c5 + 256 * (c6 + 256 * c7)))))) → y < 2 ^ 60 ∧ (y + y / 256 + (y + y / 256) / 65536 + (y + y / 256 + (y + y / 256) / 65536) / 4294967296) % 128 = c0 + c1 + c2 + c3 + c4 + c5 + c6 + c7 := by
  intro y e
  have h1 : y / 256 = c1 + 256 * (c2 + 256 * (c3 + 256 * (c4 + 256 * (c5 + 256 * (c6 + 256 * c7))))) := by omega
  refine ⟨by omega, ?_⟩
  generalize hz : y + y / 256 = z
  have h2 : z = (c0 + c1) + 256 * ((c1 + c2) + 256 * ((c2 + c3) + 256 * ((c3 + c4) + 256 * ((c4 + c5) + 256 * ((c5 + c6) + 256 * ((c6 + c7) + 256 * c7)))))) := by omega
  clear hz e h1
  have h3 : z / 65536 = (c2 + c3) + 256 * ((c3 + c4) + 256 * ((c4 + c5) + 256 * ((c5 + c6) + 256 * ((c6 + c7) + 256 * c7)))) := by omega
  generalize hu : z + z / 65536 = u
  have h4 : u = (c0 + c1 + c2 + c3) + 256 * ((c1 + c2 + c3 + c4) + 256 * ((c2 + c3 + c4 + c5) + 256 * ((c3 + c4 + c5 + c6) + 256 * ((c4 + c5 + c6 + c7) + 256 * ((c5 + c6 + c7) + 256 * ((c6 + c7) + 256 * c7)))))) := by omega
  clear hu h2 h3
  have h5 : u / 4294967296 = (c4 + c5 + c6 + c7) + 256 * ((c5 + c6 + c7) + 256 * ((c6 + c7) + 256 * c7)) := by omega
  omega
theorem lJ_u {n k : Nat} (hn : n < 2 ^ 64) (hk : k < 64) : lu_ (lN n) (nI k) = lN (n / 2 ^ k) := wb_shr hn hk
theorem mk_55 : mk8 85 8 = 6148914691236517205 := by decide +kernel
theorem mk_33 : mk8 51 8 = 3689348814741910323 := by decide +kernel
theorem mk_0f : mk8 15 8 = 1085102592571150095 := by decide +kernel

theorem fJ8_e (x : Int64) (h : ph_t) : fJ8_bitCount x h = some (nI (fb_ct (btl x) 64), h) := by
  obtain ⟨n, hn, rfl⟩ := wb_of x
  have e0 : btl (lN n) = fun i => if i < 64 then n.testBit i else false := by
    funext i
    show (BitVec.ofNat 64 n).getLsbD i = _
    rw [BitVec.getLsbD_ofNat]
    by_cases q : i < 64 <;> simp [q]
  rw [e0, fb_ct_cong (q := fun i => n.testBit i) (fun i hi => by simp [hi])]
  obtain ⟨c0, c1, c2, c3, c4, c5, c6, c7, hc, h1, h2⟩ := pc_64 n
  obtain ⟨h3, h4⟩ := pc_lt hc _ h2
  have h5 : (n / 2 &&& mk8 85 8) ≤ n := ps1_s.2
  have hp1 : ps1 8 n < 2 ^ 64 := Nat.lt_of_le_of_lt (ps1_le _ _) hn
  have hp2 : ps2 8 (ps1 8 n) < 2 ^ 64 := by
    have a1 : (ps1 8 n &&& mk8 51 8) ≤ mk8 51 8 := Nat.and_le_right
    have a2 : (ps1 8 n / 4 &&& mk8 51 8) ≤ mk8 51 8 := Nat.and_le_right
    rw [mk_33] at a1 a2
    unfold ps2
    rw [mk_33]
    omega
  have e1 : lN n - ((lu_ (lN n) 1) &&& 6148914691236517205) = lN (ps1 8 n) := by
    rw [show (1 : Int32) = nI 1 from rfl, lJ_u hn (by decide), show (6148914691236517205 : Int64) = lN (mk8 85 8) from by rw [mk_55]; rfl, wb_and (by omega) (by rw [mk_55]; decide), lN_sub (by simpa using h5)]
    rfl
  have e2 : (lN (ps1 8 n) &&& 3689348814741910323) + ((lu_ (lN (ps1 8 n)) 2) &&& 3689348814741910323) = lN (ps2 8 (ps1 8 n)) := by
    rw [show (2 : Int32) = nI 2 from rfl, lJ_u hp1 (by decide), show (3689348814741910323 : Int64) = lN (mk8 51 8) from by rw [mk_33]; rfl, wb_and hp1 (by rw [mk_33]; decide), wb_and (by omega) (by rw [mk_33]; decide), lN_add]
    rfl
  generalize hs : ps2 8 (ps1 8 n) = m at *
  have hm16 : m + m / 16 < 2 ^ 65 := by omega
  have e3 : (lN m + (lu_ (lN m) 4)) &&& 1085102592571150095 = lN (ps3 8 m) := by
    rw [show (4 : Int32) = nI 4 from rfl, lJ_u hp2 (by decide), lN_add, wb_mod, show (1085102592571150095 : Int64) = lN (mk8 15 8) from by rw [mk_0f]; rfl, wb_and (Nat.mod_lt _ (by decide)) (by rw [mk_0f]; decide)]
    congr 1
    unfold ps3
    rw [mk_0f]
    have := Nat.and_mod_two_pow (a := m + m / 2 ^ 4) (b := 1085102592571150095) (n := 64)
    rw [show (1085102592571150095 : Nat) % 2 ^ 64 = 1085102592571150095 from by decide, Nat.mod_eq_of_lt (Nat.lt_of_le_of_lt Nat.and_le_right (by decide))] at this
    exact this.symm
  generalize hy : ps3 8 m = y at *
  have e4 : lN y + (lu_ (lN y) 8) = lN (y + y / 256) := by
    rw [show (8 : Int32) = nI 8 from rfl, lJ_u (by omega) (by decide), lN_add]
  have e5 : lN (y + y / 256) + (lu_ (lN (y + y / 256)) 16) = lN (y + y / 256 + (y + y / 256) / 65536) := by
    rw [show (16 : Int32) = nI 16 from rfl, lJ_u (by omega) (by decide), lN_add]
  generalize hv : y + y / 256 + (y + y / 256) / 65536 = v at *
  have hv2 : v < 2 ^ 62 := by omega
  have e6 : lN v + (lu_ (lN v) 32) = lN (v + v / 4294967296) := by
    rw [show (32 : Int32) = nI 32 from rfl, lJ_u (by omega) (by decide), lN_add]
  unfold fJ8_bitCount nm_
  simp only [e1, e2, e3, e4, e5, e6]
  rw [lN_i, show (127 : Int32) = nI 127 from rfl, nx_and, show (127 : Nat) = 2 ^ 7 - 1 from rfl, Nat.and_two_pow_sub_one_eq_mod, h1]
  rw [show (v + v / 4294967296) % 2 ^ 7 = c0 + c1 + c2 + c3 + c4 + c5 + c6 + c7 from h4]

theorem iJ_u {n k : Nat} (hn : n < 2 ^ 32) (hk : k < 32) : iu_ (nI n) (nI k) = nI (n / 2 ^ k) := by
  refine b_ext fun i hi => ?_
  rw [show iu_ (nI n) (nI k) = ((nI n).toUInt32 >>> ((nI k).toUInt32 &&& Int32.toUInt32 31)).toInt32 from rfl, b_ushr k hk, bt_nI _ _ hi, Nat.testBit_div_two_pow]
  rcases Nat.lt_or_ge (k + i) 32 with q | q
  · rw [bt_nI _ _ q, Nat.add_comm]
  · rw [b_big q, Nat.add_comm, Nat.testBit_lt_two_pow]
    exact Nat.lt_of_lt_of_le hn (Nat.pow_le_pow_right (by decide) q)
theorem pc_32 (n : Nat) : ∃ c0 c1 c2 c3 : Nat, (c0 ≤ 8 ∧ c1 ≤ 8 ∧ c2 ≤ 8 ∧ c3 ≤ 8) ∧ fb_ct (fun i => n.testBit i) 32 = c0 + c1 + c2 + c3 ∧ ps3 4 (ps2 4 (ps1 4 n)) = c0 + 256 * (c1 + 256 * (c2 + 256 * c3)) := by
  refine ⟨cb8 n, cb8 (n / 256), cb8 (n / 256 / 256), cb8 (n / 256 / 256 / 256), ⟨cb8_le, cb8_le, cb8_le, cb8_le⟩, ?_, ?_⟩
  rotate_left
  · rw [ps_step, ps_step, ps_step, ps_step, show ∀ m, ps3 0 m = 0 from fun m => by simp [ps3, mk8], Nat.mul_zero, Nat.add_zero]
  · rw [show (32 : Nat) = 8 + 24 from rfl, ct_dv _ 24, show (24 : Nat) = 8 + 16 from rfl, ct_dv _ 16, show (16 : Nat) = 8 + 8 from rfl, ct_dv _ 8, show fb_ct (fun i => (n / 256 / 256 / 256).testBit i) 8 = cb8 (n / 256 / 256 / 256) from fb_ct_cong fun i hi => (tb_md hi).symm]
    omega
theorem mi_55 : mk8 85 4 = 1431655765 := by decide +kernel
theorem mi_33 : mk8 51 4 = 858993459 := by decide +kernel
theorem mi_0f : mk8 15 4 = 252645135 := by decide +kernel
/-- of a number that isn't negative -/
theorem fJ9_e (n : Nat) (hn : n < 2 ^ 31) (h : ph_t) : fJ9_bitCount (nI n) h = some (nI (fb_ct (fun i => n.testBit i) 32), h) := by
  obtain ⟨c0, c1, c2, c3, hc, h1, h2⟩ := pc_32 n
  have h5 : (n / 2 &&& mk8 85 4) ≤ n := ps1_s.2
  have hp1 : ps1 4 n < 2 ^ 31 := Nat.lt_of_le_of_lt (ps1_le _ _) hn
  have hp2 : ps2 4 (ps1 4 n) < 2 ^ 31 := by
    have a1 : (ps1 4 n &&& mk8 51 4) ≤ mk8 51 4 := Nat.and_le_right
    have a2 : (ps1 4 n / 4 &&& mk8 51 4) ≤ mk8 51 4 := Nat.and_le_right
    rw [mi_33] at a1 a2
    unfold ps2
    rw [mi_33]
    omega
  have e1 : nI n - ((iu_ (nI n) 1) &&& 1431655765) = nI (ps1 4 n) := by
    rw [show (1 : Int32) = nI 1 from rfl, iJ_u (by omega) (by decide), show (1431655765 : Int32) = nI (mk8 85 4) from by rw [mi_55]; rfl, nx_and, nJ_sub (by simpa using h5)]
    rfl
  have e2 : (nI (ps1 4 n) &&& 858993459) + ((iu_ (nI (ps1 4 n)) 2) &&& 858993459) = nI (ps2 4 (ps1 4 n)) := by
    rw [show (2 : Int32) = nI 2 from rfl, iJ_u (by omega) (by decide), show (858993459 : Int32) = nI (mk8 51 4) from by rw [mi_33]; rfl, nx_and, nx_and, nI_add]
    rfl
  generalize hs : ps2 4 (ps1 4 n) = m at *
  have e3 : (nI m + (iu_ (nI m) 4)) &&& 252645135 = nI (ps3 4 m) := by
    rw [show (4 : Int32) = nI 4 from rfl, iJ_u (by omega) (by decide), nI_add, show (252645135 : Int32) = nI (mk8 15 4) from by rw [mi_0f]; rfl, nx_and]
    rfl
  generalize hy : ps3 4 m = y at *
  have h3 : y / 256 = c1 + 256 * (c2 + 256 * c3) := by omega
  have e4 : nI y + (iu_ (nI y) 8) = nI (y + y / 256) := by
    rw [show (8 : Int32) = nI 8 from rfl, iJ_u (by omega) (by decide), nI_add]
  have e5 : nI (y + y / 256) + (iu_ (nI (y + y / 256)) 16) = nI (y + y / 256 + (y + y / 256) / 65536) := by
    rw [show (16 : Int32) = nI 16 from rfl, iJ_u (by omega) (by decide), nI_add]
  have h4 : (y + y / 256 + (y + y / 256) / 65536) % 64 = c0 + c1 + c2 + c3 := by
    have h6 : y + y / 256 = (c0 + c1) + 256 * ((c1 + c2) + 256 * ((c2 + c3) + 256 * c3)) := by omega
    have h7 : (y + y / 256) / 65536 = (c2 + c3) + 256 * c3 := by
      rw [h6]
      clear e1 e2 e3 e4 e5 h2 h3 h5 h6
      omega
    rw [h7, h6]
    omega
  unfold fJ9_bitCount nm_
  simp only [e1, e2, e3, e4, e5]
  rw [show (63 : Int32) = nI 63 from rfl, nx_and, show (63 : Nat) = 2 ^ 6 - 1 from rfl, Nat.and_two_pow_sub_one_eq_mod, h1, show (y + y / 256 + (y + y / 256) / 65536) % 2 ^ 6 = c0 + c1 + c2 + c3 from h4]
