/-! P2 RFIND: the first that is so; the best so far; sets within a set -/
def fst_ (p : Nat → Bool) : Nat → Option Nat
  | 0 => none
  | n + 1 => match fst_ p n with
    | some i => some i
    | none => if p n then some n else none
theorem fst_none {p : Nat → Bool} : ∀ {n : Nat}, (∀ i, i < n → p i = false) → fst_ p n = none
  | 0, _ => rfl
  | n + 1, h => by
    unfold fst_
    rw [fst_none (n := n) (fun i hi => h i (by omega)), h n (by omega)]
    rfl
theorem fst_some {p : Nat → Bool} {i : Nat} (h1 : p i = true) (h2 : ∀ k, k < i → p k = false) : ∀ {n : Nat}, i < n → fst_ p n = some i
  | n + 1, h => by
    unfold fst_
    by_cases e : i = n
    · subst e
      rw [fst_none h2, h1]
      rfl
    · rw [fst_some h1 h2 (n := n) (by omega)]
theorem fst_cases {p : Nat → Bool} (n : Nat) : (∀ i, i < n → p i = false) ∨ ∃ i, i < n ∧ p i = true ∧ ∀ k, k < i → p k = false := by
  induction n with
  | zero => left; intro i hi; omega
  | succ n ih =>
    rcases ih with h | ⟨i, h1, h2, h3⟩
    · cases c : p n with
      | false => left; intro i hi; by_cases e : i = n
                 · rw [e]; exact c
                 · exact h i (by omega)
      | true => right; exact ⟨n, by omega, c, h⟩
    · right; exact ⟨i, by omega, h2, h3⟩
theorem whl_find {S T : Type} {f : S → Option (S ⊕ T)} (st : Nat → S) (p : Nat → Bool) (n : Nat) {t0 : T} {t1 : Nat → T} {s : S} (h0 : s = st 0) (step : ∀ i, i < n → p i = false → f (st i) = some (.inl (st (i + 1)))) (hit : ∀ i, i < n → p i = true → f (st i) = some (.inr (t1 i))) (fin : f (st n) = some (.inr t0)) : whl f s = some (match fst_ p n with | some i => t1 i | none => t0) := by
  subst h0
  rcases fst_cases (p := p) n with h | ⟨i, h1, h2, h3⟩
  · rw [fst_none h, whl_to st n (fun k hk => step k hk (h k hk))]
    exact whl_end fin
  · rw [fst_some h2 h3 h1, whl_to st i (fun k hk => step k (by omega) (h3 k hk))]
    exact whl_end (hit i h1 h2)
theorem fst_lt {p : Nat → Bool} {n i : Nat} (h : fst_ p n = some i) : i < n := by
  rcases fst_cases (p := p) n with h1 | ⟨k, h1, h2, h3⟩
  · rw [fst_none h1] at h; cases h
  · rw [fst_some h2 h3 h1] at h; cases h; exact h1
/-- the best so far: -2 for none -/
def enO (o : Option Nat) : Int32 := match o with
  | some p => nI p
  | none => -(nI 2)
theorem enO_s {p : Nat} : enO (some p) = nI p := rfl
theorem enO_n : enO none = -(nI 2) := rfl
theorem nI_m2 {p : Nat} (h : p < 2 ^ 31) : (nI p = -(nI 2)) = False := by
  apply eq_false
  intro z
  have := congrArg Int32.toInt z
  rw [nI_toInt h, show (-(nI 2) : Int32).toInt = -2 from by decide +kernel] at this
  omega
theorem nI_m1 {p : Nat} (h : p < 2 ^ 31) : (nI p = -(nI 1)) = False := by
  apply eq_false
  intro z
  have := congrArg Int32.toInt z
  rw [nI_toInt h, show (-(nI 1) : Int32).toInt = -1 from by decide +kernel] at this
  omega
theorem nI_back (x : Int32) : nI x.toUInt32.toNat = x := by
  apply Int32.toBitVec_inj.1
  show BitVec.ofNat 32 x.toBitVec.toNat = x.toBitVec
  simp
theorem nI_un {p : Nat} (h : p < 2 ^ 32) : (nI p).toUInt32.toNat = p := by
  show (BitVec.ofNat 32 p).toNat = p
  rw [BitVec.toNat_ofNat]
  omega
theorem nJ_and (a b : Nat) : nI a &&& nI b = nI (a &&& b) := by
  apply Int32.toBitVec_inj.1
  show BitVec.ofNat 32 a &&& BitVec.ofNat 32 b = BitVec.ofNat 32 (a &&& b)
  apply BitVec.eq_of_getLsbD_eq
  intro i hi
  simp [hi]
theorem nJ_or (a b : Nat) : nI a ||| nI b = nI (a ||| b) := by
  apply Int32.toBitVec_inj.1
  show BitVec.ofNat 32 a ||| BitVec.ofNat 32 b = BitVec.ofNat 32 (a ||| b)
  apply BitVec.eq_of_getLsbD_eq
  intro i hi
  simp [hi]
/-- within a set of n places: what a part leaves -/
theorem cm_and : ∀ (n p s : Nat), p < 2 ^ n → s < 2 ^ n → p &&& s = p → (2 ^ n - 1 - (s - p)) &&& s = p ∧ p ≤ s
  | 0, p, s, hp, hs, _ => by
    have : p = 0 := by omega
    have : s = 0 := by omega
    subst p s
    exact ⟨rfl, by omega⟩
  | n + 1, p, s, hp, hs, h => by
    have h2 : p / 2 &&& s / 2 = p / 2 := by rw [← Nat.and_div_two, h]
    obtain ⟨i1, i2⟩ := cm_and n (p / 2) (s / 2) (by omega) (by omega) h2
    have hm : p % 2 = 1 → s % 2 = 1 := fun c => by
      rw [← h] at c
      exact (Nat.and_mod_two_eq_one.mp c).2
    have e2 : (2 : Nat) ^ (n + 1) = 2 * 2 ^ n := by rw [Nat.pow_succ]; omega
    have hle : p ≤ s := by omega
    refine ⟨?_, hle⟩
    have ed : (2 ^ (n + 1) - 1 - (s - p)) / 2 = 2 ^ n - 1 - (s / 2 - p / 2) := by omega
    have em : ((2 ^ (n + 1) - 1 - (s - p)) &&& s) % 2 = p % 2 := by
      by_cases c : p % 2 = 1
      · rw [c]
        exact Nat.and_mod_two_eq_one.mpr ⟨by omega, hm c⟩
      · have : ¬ ((2 ^ (n + 1) - 1 - (s - p)) &&& s) % 2 = 1 := fun z => by
          have z := Nat.and_mod_two_eq_one.mp z
          omega
        omega
    have ee : ((2 ^ (n + 1) - 1 - (s - p)) &&& s) / 2 = p / 2 := by rw [Nat.and_div_two, ed, i1]
    omega
/-- the next part is greater -/
theorem nx_gt : ∀ (n p s : Nat), p < 2 ^ n → s < 2 ^ n → p &&& s = p → p ≠ s → p < (2 ^ n - (s - p)) &&& s
  | 0, p, s, hp, hs, _, hn => by omega
  | n + 1, p, s, hp, hs, h, hn => by
    have h2 : p / 2 &&& s / 2 = p / 2 := by rw [← Nat.and_div_two, h]
    obtain ⟨i1, i2⟩ := cm_and n (p / 2) (s / 2) (by omega) (by omega) h2
    have hm : p % 2 = 1 → s % 2 = 1 := fun c => by
      rw [← h] at c
      exact (Nat.and_mod_two_eq_one.mp c).2
    have e2 : (2 : Nat) ^ (n + 1) = 2 * 2 ^ n := by rw [Nat.pow_succ]; omega
    have hle : p ≤ s := by omega
    by_cases c : p % 2 = s % 2
    · have i3 := nx_gt n (p / 2) (s / 2) (by omega) (by omega) h2 (by omega)
      have ed : (2 ^ (n + 1) - (s - p)) / 2 = 2 ^ n - (s / 2 - p / 2) := by omega
      have ee : ((2 ^ (n + 1) - (s - p)) &&& s) / 2 = (2 ^ n - (s / 2 - p / 2)) &&& (s / 2) := by rw [Nat.and_div_two, ed]
      omega
    · have ed : (2 ^ (n + 1) - (s - p)) / 2 = 2 ^ n - 1 - (s / 2 - p / 2) := by omega
      have ee : ((2 ^ (n + 1) - (s - p)) &&& s) / 2 = p / 2 := by rw [Nat.and_div_two, ed, i1]
      have em : ((2 ^ (n + 1) - (s - p)) &&& s) % 2 = 1 := Nat.and_mod_two_eq_one.mpr ⟨by omega, by omega⟩
      omega
def nxt (s p : Nat) : Nat := (2 ^ 32 - (s - p)) &&& s
theorem nxt_sub {s p : Nat} : nxt s p &&& s = nxt s p := by
  unfold nxt
  rw [Nat.and_assoc, Nat.and_self]
theorem nxt_le {s p : Nat} : nxt s p ≤ s := Nat.and_le_right
theorem nxt_m {s p : Nat} (hs : s < 2 ^ 31) (hp : p ≤ s) : (nI p - nI s) &&& nI s = nI (nxt s p) := by
  unfold nxt
  rw [← nJ_and]
  congr 1
  have : nI (2 ^ 32 - (s - p)) + nI s = nI p := by
    rw [nI_add]
    apply Int32.toBitVec_inj.1
    show BitVec.ofNat 32 _ = BitVec.ofNat 32 p
    apply BitVec.eq_of_toNat_eq
    rw [BitVec.toNat_ofNat, BitVec.toNat_ofNat]
    omega
  rw [← this, Int32.add_sub_cancel]
theorem nxt_b {s p : Nat} (hs : s < 2 ^ 31) (hp : p &&& s = p) : (((nI p ||| (nI s ^^^ (-1))) + nI 1) &&& nI s : Int32) = nI (nxt s p) := by
  have hle : p ≤ s := by rw [← hp]; exact Nat.and_le_right
  rw [← nxt_m hs hle]
  congr 1
  have e1 : nI p ||| (nI s ^^^ (-1)) = nI p + (nI s ^^^ (-1)) := by
    apply Int32.toBitVec_inj.1
    rw [Int32.toBitVec_or, Int32.toBitVec_add]
    refine (BitVec.add_eq_or_of_and_eq_zero _ _ ?_).symm
    have : (nI p &&& (nI s ^^^ (-1)) : Int32) = 0 := by
      apply b_ext
      intro i hi
      rw [b_and, bt_not hi, bt_nI _ _ hi, bt_nI _ _ hi, b_0]
      have := congrArg (fun x => x.testBit i) hp
      simp only [Nat.testBit_and] at this
      cases c1 : p.testBit i <;> cases c2 : s.testBit i <;> simp_all
    have := congrArg Int32.toBitVec this
    rw [Int32.toBitVec_and] at this
    exact this
  have e2 : ((nI s ^^^ (-1)) + nI 1 : Int32) = -(nI s) := by
    apply Int32.toBitVec_inj.1
    rw [Int32.toBitVec_add, Int32.toBitVec_neg, Int32.toBitVec_xor, BitVec.neg_eq_not_add, show (-1 : Int32).toBitVec = BitVec.allOnes 32 from by decide, BitVec.xor_allOnes]
    rfl
  rw [e1, Int32.add_assoc, e2, Int32.sub_eq_add_neg]
