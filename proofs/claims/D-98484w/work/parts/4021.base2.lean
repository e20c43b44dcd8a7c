/-! P2 BASE2: loops over a changing heap; frames; a land's rows put together -/
theorem whl_up {S T : Type} {f : S → Option (S ⊕ T)} {Q : T → Prop} (P : Nat → S → Prop) (n : Nat) {s : S} (h0 : P 0 s) (h : ∀ i s, i < n → P i s → ∃ s', f s = some (.inl s') ∧ P (i + 1) s') (fin : ∀ s, P n s → ∃ t, f s = some (.inr t) ∧ Q t) : ∃ t, whl f s = some t ∧ Q t := by
  refine whl_inv (P := fun i s => P i s) n (fun i s hi hp => ?_) 0 s (Nat.zero_le _) h0
  by_cases c : i < n
  · exact .inl ⟨c, h i s c hp⟩
  · have : i = n := by omega
    subst this
    exact .inr (fin s hp)
/-- a loop's counter and numbers are known by the turn, the heap by what is said of it -/
theorem whl_st {S T α : Type} {f : S → Option (S ⊕ T)} {Q : T → Prop} (st : Nat → α → S) (P : Nat → α → Prop) (n : Nat) {a : α} {s : S} (hs : s = st 0 a) (h0 : P 0 a) (h : ∀ i b, i < n → P i b → ∃ b', f (st i b) = some (.inl (st (i + 1) b')) ∧ P (i + 1) b') (fin : ∀ b, P n b → ∃ t, f (st n b) = some (.inr t) ∧ Q t) : ∃ t, whl f s = some t ∧ Q t := by
  subst hs
  refine whl_up (fun i s => ∃ b, s = st i b ∧ P i b) n ⟨a, rfl, h0⟩ ?_ ?_
  · rintro i s hi ⟨b, rfl, hp⟩
    obtain ⟨b', h1, h2⟩ := h i b hi hp
    exact ⟨_, h1, b', rfl, h2⟩
  · rintro s ⟨b, rfl, hp⟩
    exact fin b hp
/-- the same, where the loop may end ahead -/
theorem whl_sx {S T α : Type} {f : S → Option (S ⊕ T)} {Q : T → Prop} (st : Nat → α → S) (P : Nat → α → Prop) (n : Nat) {a : α} {s : S} (hs : s = st 0 a) (h0 : P 0 a) (h : ∀ i b, i < n → P i b → (∃ b', f (st i b) = some (.inl (st (i + 1) b')) ∧ P (i + 1) b') ∨ ∃ t, f (st i b) = some (.inr t) ∧ Q t) (fin : ∀ b, P n b → ∃ t, f (st n b) = some (.inr t) ∧ Q t) : ∃ t, whl f s = some t ∧ Q t := by
  subst hs
  refine whl_inv (P := fun i s => ∃ b, s = st i b ∧ P i b) n (fun i s hi hp => ?_) 0 _ (Nat.zero_le _) ⟨a, rfl, h0⟩
  obtain ⟨b, rfl, hp⟩ := hp
  by_cases c : i < n
  · rcases h i b c hp with ⟨b', h1, h2⟩ | h1
    · exact .inl ⟨c, _, h1, b', rfl, h2⟩
    · exact .inr h1
  · have : i = n := by omega
    subst this
    exact .inr (fin b hp)
/-- one loop goes as another does -/
theorem whl_sim {S S' T T' : Type} {f : S → Option (S ⊕ T)} {g : S' → Option (S' ⊕ T')} (J : S' → S → Prop) (Q : T' → T → Prop) (h : ∀ s' s, J s' s → (∃ a' a, g s' = some (.inl a') ∧ f s = some (.inl a) ∧ J a' a) ∨ (∃ t' t, g s' = some (.inr t') ∧ f s = some (.inr t) ∧ Q t' t) ∨ g s' = none) {s' : S'} {s : S} (hJ : J s' s) {t' : T'} (ht : whl g s' = some t') : ∃ t, whl f s = some t ∧ Q t' t := by
  obtain ⟨n, hn⟩ := whl_iff.mp ht
  have key : ∀ (n : Nat) (s' : S') (s : S), J s' s → wh_ n g s' = some t' → ∃ t, whl f s = some t ∧ Q t' t := by
    intro n
    induction n with
    | zero => intro s' s _ h; cases h
    | succ n ih =>
      intro s' s hJ hn
      unfold wh_ at hn
      rcases h s' s hJ with ⟨a', a, h1, h2, h3⟩ | ⟨u', u, h1, h2, h3⟩ | h1
      · rw [h1] at hn
        obtain ⟨t, h4, h5⟩ := ih a' a h3 hn
        refine ⟨t, ?_, h5⟩
        rw [whl_eq, h2]
        exact h4
      · rw [h1] at hn
        cases hn
        exact ⟨u, whl_end h2, h3⟩
      · rw [h1] at hn
        cases hn
  exact key n s' s hJ hn
/-- a fold -/
def fo_ {α : Type} (f : Nat → α → α) (a : α) : Nat → α
  | 0 => a
  | n + 1 => f n (fo_ f a n)
theorem rnF_1 {A : ld_t} : rnF A 1 = 9 := rfl
theorem mlR_mk {acc : Nat → Nat → Int32} {A : ld_t} (h0 : acc 0 0 = nI (lA A 0 0)) (h1 : ∀ j, j < 9 → acc 1 j = nI (lA A 1 j)) (h2 : ∀ f, 2 ≤ f → f ≤ 6 → ∀ p, p < lA A 1 2 → acc f p = nI (lA A f p)) (h7 : ∀ p, p < lA A 1 3 → acc 7 p = nI (lA A 7 p)) (h8 : ∀ f, 8 ≤ f → f ≤ 10 → ∀ p, p < lA A 1 4 → acc f p = nI (lA A f p)) (h11 : ∀ f, 11 ≤ f → f ≤ 12 → ∀ p, p < lA A 1 5 → acc f p = nI (lA A f p)) (h13 : ∀ f, 13 ≤ f → f ≤ 14 → ∀ p, p < lA A 1 7 → acc f p = nI (lA A f p))
    (r2 : ∀ who, who < lA A 1 2 ∨ who = 6 → rI_ (acc 15) (8 * who) (lH A who))
    (r3 : ∀ k, k < lA A 0 0 → (acc 57 (76 * k) = nI ((lP A k).1 1 6) ∧ acc 57 (76 * k + 1) = nI ((lP A k).1 1 1) ∧ (∀ p, p < lA A 1 2 → acc 57 (76 * k + 2 + p) = nI ((lP A k).1 2 p) ∧ acc 57 (76 * k + 8 + p) = nI ((lP A k).1 5 p) ∧ acc 57 (76 * k + 14 + p) = nI ((lP A k).1 6 p)) ∧
    ∀ who, who < lA A 1 2 ∨ who = 6 → rI_ (acc 57) (76 * k + 20 + 8 * who) ((lP A k).2 who))) : mlR acc A := by
  refine ⟨fun f i hi => ?_, r2, r3⟩
  unfold rnF at hi
  by_cases c0 : f = 0
  · subst c0
    rw [if_pos rfl] at hi
    have : i = 0 := by omega
    subst this
    exact h0
  rw [if_neg c0] at hi
  by_cases c1 : f = 1
  · subst c1
    rw [if_pos rfl] at hi
    exact h1 i hi
  rw [if_neg c1] at hi
  by_cases c2 : f ≤ 6
  · rw [if_pos c2] at hi
    exact h2 f (by omega) c2 i hi
  rw [if_neg c2] at hi
  by_cases c3 : f = 7
  · subst c3
    rw [if_pos rfl] at hi
    exact h7 i hi
  rw [if_neg c3] at hi
  by_cases c4 : f ≤ 10
  · rw [if_pos c4] at hi
    exact h8 f (by omega) c4 i hi
  rw [if_neg c4] at hi
  by_cases c5 : f ≤ 12
  · rw [if_pos c5] at hi
    exact h11 f (by omega) c5 i hi
  rw [if_neg c5] at hi
  by_cases c6 : f ≤ 14
  · rw [if_pos c6] at hi
    exact h13 f (by omega) c6 i hi
  · rw [if_neg c6] at hi
    omega
section MLP
variable {acc : Nat → Nat → Int32} {A : ld_t}
theorem mlR.g0 (R : mlR acc A) : acc 0 0 = nI (lA A 0 0) := R.1 0 0 (by simp [rnF])
theorem mlR.g1 (R : mlR acc A) {j : Nat} (h : j < 9) : acc 1 j = nI (lA A 1 j) := R.1 1 j (by simpa [rnF] using h)
theorem mlR.g2 (R : mlR acc A) {f p : Nat} (h1 : 2 ≤ f) (h2 : f ≤ 6) (h : p < lA A 1 2) : acc f p = nI (lA A f p) := R.1 f p (by
  unfold rnF
  rw [if_neg (by omega), if_neg (by omega), if_pos h2]
  exact h)
theorem mlR.g7 (R : mlR acc A) {p : Nat} (h : p < lA A 1 3) : acc 7 p = nI (lA A 7 p) := R.1 7 p (by
  unfold rnF
  rw [if_neg (by omega), if_neg (by omega), if_neg (by omega), if_pos rfl]
  exact h)
theorem mlR.g8 (R : mlR acc A) {f p : Nat} (h1 : 8 ≤ f) (h2 : f ≤ 10) (h : p < lA A 1 4) : acc f p = nI (lA A f p) := R.1 f p (by
  unfold rnF
  rw [if_neg (by omega), if_neg (by omega), if_neg (by omega), if_neg (by omega), if_pos h2]
  exact h)
theorem mlR.g11 (R : mlR acc A) {f p : Nat} (h1 : 11 ≤ f) (h2 : f ≤ 12) (h : p < lA A 1 5) : acc f p = nI (lA A f p) := R.1 f p (by
  unfold rnF
  rw [if_neg (by omega), if_neg (by omega), if_neg (by omega), if_neg (by omega), if_neg (by omega), if_pos h2]
  exact h)
theorem mlR.g13 (R : mlR acc A) {f p : Nat} (h1 : 13 ≤ f) (h2 : f ≤ 14) (h : p < lA A 1 7) : acc f p = nI (lA A f p) := R.1 f p (by
  unfold rnF
  rw [if_neg (by omega), if_neg (by omega), if_neg (by omega), if_neg (by omega), if_neg (by omega), if_neg (by omega), if_pos h2]
  exact h)
end MLP
theorem mlL_0 {I : iF} {i : Nat} : mlL I 0 i = I 136 59 := rfl
theorem mlL_57 {I : iF} : mlL I 57 = I 179 := rfl
theorem mlL_15 {I : iF} : mlL I 15 = I 151 := rfl
theorem mlL_f {I : iF} {f : Nat} (h : 1 ≤ f) (h2 : f ≤ 15) : mlL I f = I (136 + f) := by
  funext i
  unfold mlL
  rw [if_neg (by omega), if_neg (by omega)]
/-- the model's rows are kept -/
theorem mK.keep {q : ph_t} {I I' : iF} {A : ld_t} {T : Nat → Nat → Bool} {sM : Nat} (K : mK q I A T sM) (h : ∀ a, ((137 ≤ a ∧ a ≤ 151) ∨ a = 179 ∨ a = 171) → I' a = I a) (h59 : I' 136 59 = I 136 59) (h32 : I' 136 32 = I 136 32) : mK q I' A T sM := by
  obtain ⟨M, R, hT, hs, W, h24⟩ := K
  refine ⟨M, mlR_mk ?_ (fun j hj => ?_) (fun f f1 f2 p hp => ?_) (fun p hp => ?_) (fun f f1 f2 p hp => ?_) (fun f f1 f2 p hp => ?_) (fun f f1 f2 p hp => ?_) (fun who hq => ?_) (fun k hk => ?_), ?_, ?_, W, h24⟩
  · rw [mlL_0, h59]; exact R.g0
  · rw [mlL_f (by omega) (by omega), h _ (by omega)]; exact R.g1 hj
  · rw [mlL_f (by omega) (by omega), h _ (by omega), ← mlL_f (I := I) (f := f) (by omega) (by omega)]; exact R.g2 f1 f2 hp
  · rw [mlL_f (by omega) (by omega), h _ (by omega)]; exact R.g7 hp
  · rw [mlL_f (by omega) (by omega), h _ (by omega), ← mlL_f (I := I) (f := f) (by omega) (by omega)]; exact R.g8 f1 f2 hp
  · rw [mlL_f (by omega) (by omega), h _ (by omega), ← mlL_f (I := I) (f := f) (by omega) (by omega)]; exact R.g11 f1 f2 hp
  · rw [mlL_f (by omega) (by omega), h _ (by omega), ← mlL_f (I := I) (f := f) (by omega) (by omega)]; exact R.g13 f1 f2 hp
  · rw [mlL_15, h _ (by omega)]; exact R.2.1 who hq
  · rw [mlL_57, h _ (by omega)]; exact R.2.2 k hk
  · rw [h _ (by omega)]; exact hT
  · rw [h32]; exact hs
/-- what a call of the model leaves alone: the rows read in, what was told, the images but the fifth -/
def frT (I I' : iF) : Prop := (∀ a, (a < 136 ∨ 189 ≤ a ∨ (152 ≤ a ∧ a ≤ 175)) → I' a = I a) ∧ (∀ j, j < 7040 → I' 188 j = I 188 j) ∧ ∀ j, j < 54 → I' 136 j = I 136 j
def frTL (L L' : lF_) : Prop := ∀ a, a ≠ 176 → a ≠ 177 → L' a = L a
theorem frT.rf {I : iF} : frT I I := ⟨fun _ _ => rfl, fun _ _ => rfl, fun _ _ => rfl⟩
theorem frTL.rf {L : lF_} : frTL L L := fun _ _ _ => rfl
theorem frT.tr {I I' I'' : iF} (h : frT I I') (h' : frT I' I'') : frT I I'' := ⟨fun a ha => (h'.1 a ha).trans (h.1 a ha), fun j hj => (h'.2.1 j hj).trans (h.2.1 j hj), fun j hj => (h'.2.2 j hj).trans (h.2.2 j hj)⟩
theorem frTL.tr {L L' L'' : lF_} (h : frTL L L') (h' : frTL L' L'') : frTL L L'' := fun a h1 h2 => (h' a h1 h2).trans (h a h1 h2)
theorem frT.up {I I' : iF} {a k : Nat} {v : Int32} (h : frT I I') (ha : (136 < a ∧ a < 152) ∨ (175 < a ∧ a < 188) ∨ (a = 136 ∧ 54 ≤ k) ∨ (a = 188 ∧ 7040 ≤ k)) : frT I (ph_u I' a k v) := by
  refine ⟨fun b hb => ?_, fun j hj => ?_, fun j hj => ?_⟩
  · rw [pu_ne (by omega)]; exact h.1 b hb
  · by_cases c : a = 188
    · subst c; rw [pu_nk (by omega)]; exact h.2.1 j hj
    · rw [pu_ne (by omega)]; exact h.2.1 j hj
  · by_cases c : a = 136
    · subst c; rw [pu_nk (by omega)]; exact h.2.2 j hj
    · rw [pu_ne (by omega)]; exact h.2.2 j hj
theorem frL.T {I I' : iF} (h : frL I I') : frT I I' := ⟨fun a ha => h a (by omega), fun j _ => by rw [h 188 (by omega)], fun j _ => by rw [h 136 (by omega)]⟩
theorem frT_row {I I' : iF} (h1 : ∀ a, a ≠ 136 → (a < 137 ∨ 188 ≤ a ∨ (152 ≤ a ∧ a ≤ 175)) → I' a = I a) (h2 : ∀ j, j < 54 → I' 136 j = I 136 j) : frT I I' := ⟨fun a ha => h1 a (by omega) (by omega), fun j _ => by rw [h1 188 (by omega) (by omega)], h2⟩
/-- a call of the model answers v, and its land is A' then -/
def mC {α : Type} (q : ph_t) (I : iF) (L : lF_) (T : Nat → Nat → Bool) (sM : Nat) (o : Option (α × ph_t)) (v : α) (A' : ld_t) : Prop := ∃ I' L', o = some (v, hw q I' L') ∧ frT I I' ∧ frTL L L' ∧ mK q I' A' T sM
