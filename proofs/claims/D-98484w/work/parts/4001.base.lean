/-! P2 BASE: the pure heap's ints and longs alone change -/
abbrev iF : Type := Nat → Nat → Int32
abbrev lF_ : Type := Nat → Nat → Int64
def hw (q : ph_t) (I : iF) (L : lF_) : ph_t := (q.1, q.2.1, I, L, q.2.2.2.2)
theorem hw_self (q : ph_t) : hw q q.2.2.1 q.2.2.2.1 = q := rfl
theorem hw_wI {q : ph_t} {I : iF} {L : lF_} {a k : Nat} {v : Int32} : ph_wI (hw q I L) a k v = hw q (ph_u I a k v) L := rfl
theorem hw_wL {q : ph_t} {I : iF} {L : lF_} {a k : Nat} {v : Int64} : ph_wL (hw q I L) a k v = hw q I (ph_u L a k v) := rfl
theorem hw_hw {q : ph_t} {I I' : iF} {L L' : lF_} : hw (hw q I L) I' L' = hw q I' L' := rfl
theorem pu_ne {α : Type} {f : Nat → Nat → α} {a k b : Nat} {v : α} (h : b ≠ a) : ph_u f a k v b = f b := by
  funext j; simp [ph_u, h]
theorem pu_eq {α : Type} {f : Nat → Nat → α} {a k : Nat} {v : α} : ph_u f a k v a k = v := by simp [ph_u]
theorem pu_nk {α : Type} {f : Nat → Nat → α} {a k b j : Nat} {v : α} (h : j ≠ k) : ph_u f a k v b j = f b j := by simp [ph_u, h]
theorem pu_at {α : Type} {f : Nat → Nat → α} {a k j : Nat} {v : α} : ph_u f a k v a j = if j = k then v else f a j := by simp [ph_u]
-- loops
theorem whl_to {S T : Type} {f : S → Option (S ⊕ T)} (st : Nat → S) : ∀ (n : Nat), (∀ i, i < n → f (st i) = some (.inl (st (i + 1)))) → whl f (st 0) = whl f (st n)
  | 0, _ => rfl
  | n + 1, h => by
    rw [whl_to st n (fun i hi => h i (by omega)), whl_eq, h n (by omega)]
    rfl
theorem whl_end {S T : Type} {f : S → Option (S ⊕ T)} {s : S} {t : T} (h : f s = some (.inr t)) : whl f s = some t := by
  rw [whl_eq, h]
  rfl
theorem whl_for {S T : Type} {f : S → Option (S ⊕ T)} (st : Nat → S) (n : Nat) {t : T} {s : S} (h0 : s = st 0) (h : ∀ i, i < n → f (st i) = some (.inl (st (i + 1)))) (h2 : f (st n) = some (.inr t)) : whl f s = some t := by
  rw [h0, whl_to st n h]
  exact whl_end h2
theorem whl_inv {S T : Type} {f : S → Option (S ⊕ T)} {P : Nat → S → Prop} {Q : T → Prop} (n : Nat) (step : ∀ i s, i ≤ n → P i s → (i < n ∧ ∃ s', f s = some (.inl s') ∧ P (i + 1) s') ∨ ∃ t, f s = some (.inr t) ∧ Q t) : ∀ (i : Nat) (s : S), i ≤ n → P i s → ∃ t, whl f s = some t ∧ Q t := by
  have key : ∀ (d i : Nat) (s : S), n - i = d → i ≤ n → P i s → ∃ t, whl f s = some t ∧ Q t := by
    intro d
    induction d with
    | zero =>
      intro i s hd hi hp
      rcases step i s hi hp with ⟨h1, -⟩ | ⟨t, h1, h2⟩
      · omega
      · exact ⟨t, whl_end h1, h2⟩
    | succ d ih =>
      intro i s hd hi hp
      rcases step i s hi hp with ⟨h1, s', h2, h3⟩ | ⟨t, h1, h2⟩
      · obtain ⟨t, h4, h5⟩ := ih (i + 1) s' (by omega) (by omega) h3
        refine ⟨t, ?_, h5⟩
        rw [whl_eq, h2]
        exact h4
      · exact ⟨t, whl_end h1, h2⟩
  exact fun i s hi hp => key _ i s rfl hi hp
-- numbers
theorem nJ_0 : (0 : Int32) = nI 0 := by decide +kernel
theorem nJ_sub {a b : Nat} (h : b ≤ a) : nI a - nI b = nI (a - b) := by
  have e : nI (a - b) + nI b = nI a := by rw [nI_add, Nat.sub_add_cancel h]
  rw [← e, Int32.add_sub_cancel]
theorem nJ_mul (a b : Nat) : nI a * nI b = nI (a * b) := (Int32.ofNat_mul a b).symm
theorem nJ_div {a b : Nat} (ha : a < 2 ^ 31) (hb : b < 2 ^ 31) : nI a / nI b = nI (a / b) := by
  apply Int32.toInt_inj.mp
  have hq : a / b < 2 ^ 31 := Nat.lt_of_le_of_lt (Nat.div_le_self a b) ha
  rw [Int32.toInt_div, nI_toInt ha, nI_toInt hb, nI_toInt hq, show ((a : Int)).tdiv (b : Int) = ((a / b : Nat) : Int) from (Int.ofNat_tdiv a b).symm]
  generalize a / b = c at hq ⊢
  rw [Int.bmod_eq_of_le] <;> omega
theorem nJ_mod {a b : Nat} (ha : a < 2 ^ 31) (hb : b < 2 ^ 31) : ir_ (nI a) (nI b) = nI (a % b) := by
  unfold ir_
  rw [nJ_div ha hb, nJ_mul, nJ_sub (Nat.div_mul_le_self a b)]
  congr 1
  have := Nat.div_add_mod a b
  rw [Nat.mul_comm] at this
  omega
theorem nJ_pin {n N : Nat} (h : n < N) (hN : N < 2 ^ 31) : 0 ≤ (nI n).toInt ∧ (nI n).toInt < (N : Int) := by
  rw [nI_toInt (by omega)]
  omega
theorem nJ_shl {k : Nat} (h : k < 31) : il_ 1 (nI k) = nI (2 ^ k) := (by decide +kernel : ∀ k, k < 31 → il_ 1 (nI k) = nI (2 ^ k)) k h
