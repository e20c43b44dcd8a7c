/-! CORE A: the pure heap, its operations, the relation to the machine's heap -/
abbrev ph_t : Type := (Nat → Nat) × (Nat → Nat) × (Nat → Nat → Int32) × (Nat → Nat → Int64) × (Nat → Nat → Option Nat) × Nat × Nat
def ph_T (h : ph_t) (a : Nat) : Nat := h.1 a
def ph_N (h : ph_t) (a : Nat) : Nat := h.2.1 a
def ph_I (h : ph_t) (a k : Nat) : Int32 := h.2.2.1 a k
def ph_L (h : ph_t) (a k : Nat) : Int64 := h.2.2.2.1 a k
def ph_R (h : ph_t) (a k : Nat) : Option Nat := h.2.2.2.2.1 a k
def ph_z (h : ph_t) : Nat := h.2.2.2.2.2.1
def ph_s (h : ph_t) : Nat := h.2.2.2.2.2.2
def ph_u {α : Type} (f : Nat → Nat → α) (a k : Nat) (v : α) : Nat → Nat → α := fun b j => if b = a ∧ j = k then v else f b j
def ph_wI (h : ph_t) (a k : Nat) (v : Int32) : ph_t := (h.1, h.2.1, ph_u h.2.2.1 a k v, h.2.2.2)
def ph_wL (h : ph_t) (a k : Nat) (v : Int64) : ph_t := (h.1, h.2.1, h.2.2.1, ph_u h.2.2.2.1 a k v, h.2.2.2.2)
def ph_wR (h : ph_t) (a k : Nat) (v : Option Nat) : ph_t := (h.1, h.2.1, h.2.2.1, h.2.2.2.1, ph_u h.2.2.2.2.1 a k v, h.2.2.2.2.2)
/-- a new cell of tag t with n slots -/
def ph_al (h : ph_t) (t n : Nat) : ph_t :=
  (fun b => if b = ph_z h then t else ph_T h b, fun b => if b = ph_z h then n else ph_N h b, fun b j => if b = ph_z h then 0 else ph_I h b j, fun b j => if b = ph_z h then 0 else ph_L h b j, fun b j => if b = ph_z h then none else ph_R h b j, ph_z h + 1, ph_s h + n)
/-- a row of one array's places laid in another's -/
def ph_c {α : Type} (f : Nat → Nat → α) (s d sp dp n : Nat) : Nat → Nat → α := fun b j => if b = d ∧ dp ≤ j ∧ j < dp + n then f s (sp + (j - dp)) else f b j
def ph_cI (h : ph_t) (s d sp dp n : Nat) : ph_t := (h.1, h.2.1, ph_c h.2.2.1 s d sp dp n, h.2.2.2)
def ph_cL (h : ph_t) (s d sp dp n : Nat) : ph_t := (h.1, h.2.1, h.2.2.1, ph_c h.2.2.2.1 s d sp dp n, h.2.2.2.2)
-- operations: none where the machine would throw (or is not covered)
def nm_ {α β : Type} (e : α) (k : α → Option β) : Option β := k e
def gI (h : ph_t) (r : Option Nat) (c k : Nat) : Option Int32 := r.bind fun a => if ph_T h a = c then some (ph_I h a k) else none
def gL (h : ph_t) (r : Option Nat) (c k : Nat) : Option Int64 := r.bind fun a => if ph_T h a = c then some (ph_L h a k) else none
def gR (h : ph_t) (r : Option Nat) (c k : Nat) : Option (Option Nat) := r.bind fun a => if ph_T h a = c then some (ph_R h a k) else none
def sI (h : ph_t) (r : Option Nat) (c k : Nat) (v : Int32) : Option ph_t := r.bind fun a => if ph_T h a = c then some (ph_wI h a k v) else none
def sZ (h : ph_t) (r : Option Nat) (c k : Nat) (v : Int32) : Option ph_t := r.bind fun a => if ph_T h a = c ∧ (v = 0 ∨ v = 1) then some (ph_wI h a k v) else none
def sL (h : ph_t) (r : Option Nat) (c k : Nat) (v : Int64) : Option ph_t := r.bind fun a => if ph_T h a = c then some (ph_wL h a k v) else none
def sR (h : ph_t) (r : Option Nat) (c k : Nat) (v : Option Nat) : Option ph_t := r.bind fun a => if ph_T h a = c then some (ph_wR h a k v) else none
def ix_ (h : ph_t) (a t : Nat) (i : Int32) : Prop := ph_T h a = t ∧ 0 ≤ i.toInt ∧ i.toInt < (ph_N h a : Int)
def xI (h : ph_t) (r : Option Nat) (t : Nat) (i : Int32) : Option Int32 := r.bind fun a => if ph_T h a = t ∧ 0 ≤ i.toInt ∧ i.toInt < (ph_N h a : Int) then some (ph_I h a i.toNatClampNeg) else none
def xL (h : ph_t) (r : Option Nat) (t : Nat) (i : Int32) : Option Int64 := r.bind fun a => if ph_T h a = t ∧ 0 ≤ i.toInt ∧ i.toInt < (ph_N h a : Int) then some (ph_L h a i.toNatClampNeg) else none
def xR (h : ph_t) (r : Option Nat) (t : Nat) (i : Int32) : Option (Option Nat) := r.bind fun a => if ph_T h a = t ∧ 0 ≤ i.toInt ∧ i.toInt < (ph_N h a : Int) then some (ph_R h a i.toNatClampNeg) else none
def yI (h : ph_t) (r : Option Nat) (t : Nat) (i : Int32) (v : Int32) : Option ph_t := r.bind fun a => if ph_T h a = t ∧ 0 ≤ i.toInt ∧ i.toInt < (ph_N h a : Int) then some (ph_wI h a i.toNatClampNeg v) else none
def yL (h : ph_t) (r : Option Nat) (t : Nat) (i : Int32) (v : Int64) : Option ph_t := r.bind fun a => if ph_T h a = t ∧ 0 ≤ i.toInt ∧ i.toInt < (ph_N h a : Int) then some (ph_wL h a i.toNatClampNeg v) else none
/-- in an array of references: the thing stored is of the class of tag c (a text's own constant, where c = 29) -/
def yR (h : ph_t) (r : Option Nat) (t : Nat) (i : Int32) (v : Option Nat) (c : Nat) : Option ph_t := r.bind fun a => v.bind fun w => if (ph_T h a = t ∧ 0 ≤ i.toInt ∧ i.toInt < (ph_N h a : Int)) ∧ (ph_T h w = c ∨ (c = 29 ∧ w < 28)) then some (ph_wR h a i.toNatClampNeg (some w)) else none
def nA (h : ph_t) (r : Option Nat) : Option Int32 := r.bind fun a => if 20 ≤ ph_T h a ∧ ph_T h a < 28 then some (Int32.ofNat (ph_N h a)) else none
def dv_ (h : ph_t) (r : Option Nat) (c : Nat) : Option Nat := r.bind fun a => if ph_T h a = c then some a else none
def nw_ {β : Type} (h : ph_t) (c n : Nat) (k : Nat → ph_t → Option β) : Option β := k (ph_z h) (ph_al h c n)
def na_ {β : Type} (h : ph_t) (t : Nat) (n : Int32) (k : Nat → ph_t → Option β) : Option β := if 0 ≤ n.toInt ∧ n.toInt ≤ 60000000 then k (ph_z h) (ph_al h t n.toNatClampNeg) else none
def ac_I (h : ph_t) (s : Option Nat) (sp : Int32) (d : Option Nat) (dp n : Int32) : Option ph_t := s.bind fun a => d.bind fun b => if ph_T h a = 20 ∧ ph_T h b = 20 ∧ 0 ≤ sp.toInt ∧ 0 ≤ dp.toInt ∧ 0 ≤ n.toInt ∧ sp.toInt + n.toInt ≤ (ph_N h a : Int) ∧ dp.toInt + n.toInt ≤ (ph_N h b : Int) then some (ph_cI h a b sp.toNatClampNeg dp.toNatClampNeg n.toNatClampNeg) else none
def ac_L (h : ph_t) (s : Option Nat) (sp : Int32) (d : Option Nat) (dp n : Int32) : Option ph_t := s.bind fun a => d.bind fun b => if ph_T h a = 21 ∧ ph_T h b = 21 ∧ 0 ≤ sp.toInt ∧ 0 ≤ dp.toInt ∧ 0 ≤ n.toInt ∧ sp.toInt + n.toInt ≤ (ph_N h a : Int) ∧ dp.toInt + n.toInt ≤ (ph_N h b : Int) then some (ph_cL h a b sp.toNatClampNeg dp.toNatClampNeg n.toNatClampNeg) else none
def wt_ (i : Nat) : Int64 := if i = 0 then 0x5555555555555555 else if i = 1 then 0x3333333333333333 else if i = 2 then 0x0F0F0F0F0F0F0F0F else if i = 3 then 0x00FF00FF00FF00FF else if i = 4 then 0x0000FFFF0000FFFF else 0x00000000FFFFFFFF
def xW (r : Option Nat) (i : Int32) : Option Int64 := if r = some 28 ∧ 0 ≤ i.toInt ∧ i.toInt < 6 then some (wt_ i.toNatClampNeg) else none
-- arithmetic of the machine, named
def ir_ (x y : Int32) : Int32 := x - x / y * y
def lr_ (x y : Int64) : Int64 := x - x / y * y
def il_ (x y : Int32) : Int32 := x <<< (y &&& 31)
def is_ (x y : Int32) : Int32 := x >>> (y &&& 31)
def iu_ (x y : Int32) : Int32 := (x.toUInt32 >>> (y.toUInt32 &&& Int32.toUInt32 31)).toInt32
def lu_ (x : Int64) (y : Int32) : Int64 := (x.toUInt64 >>> (y.toInt64.toUInt64 &&& Int64.toUInt64 63)).toInt64
def ll_ (x : Int64) (y : Int32) : Int64 := x <<< (y.toInt64 &&& 63)
def ib_ (x : Int32) : Int32 := x.toInt8.toInt32
def ic_ (x : Int32) : Int32 := (x.toUInt32 % 65536).toInt32
-- loops
def wh_ {S T : Type} : Nat → (S → Option (S ⊕ T)) → S → Option T
  | 0, _, _ => none
  | n + 1, f, s => (f s).bind fun r => match r with
    | .inl s' => wh_ n f s'
    | .inr t => some t
theorem wh_up {S T : Type} {f : S → Option (S ⊕ T)} : ∀ (n m : Nat) (s : S) (t : T), n ≤ m → wh_ n f s = some t → wh_ m f s = some t := by
  intro n
  induction n with
  | zero => intro m s t _ h; cases h
  | succ n ih =>
    intro m s t hm h
    obtain ⟨m, rfl⟩ : ∃ q, m = q + 1 := ⟨m - 1, by omega⟩
    unfold wh_ at h ⊢
    cases hf : f s with
    | none => rw [hf] at h; cases h
    | some r =>
      rw [hf] at h
      cases r with
      | inl s' => exact ih m s' t (by omega) h
      | inr t' => exact h
noncomputable def whl {S T : Type} (f : S → Option (S ⊕ T)) (s : S) : Option T := @dite _ (∃ (t : T) (n : Nat), wh_ n f s = some t) (Classical.propDecidable _) (fun h => some (Classical.choose h)) (fun _ => none)
theorem whl_iff {S T : Type} {f : S → Option (S ⊕ T)} {s : S} {t : T} : whl f s = some t ↔ ∃ n, wh_ n f s = some t := by
  unfold whl
  constructor
  · intro h
    split at h
    · rename_i h0
      cases h
      exact Classical.choose_spec h0
    · cases h
  · intro h
    have h0 : ∃ (t : T) (n : Nat), wh_ n f s = some t := ⟨t, h⟩
    rw [dif_pos h0]
    obtain ⟨n, hn⟩ := h
    obtain ⟨m, hm⟩ := Classical.choose_spec h0
    have h1 := wh_up n (max n m) s t (Nat.le_max_left ..) hn
    have h2 := wh_up m (max n m) s _ (Nat.le_max_right ..) hm
    exact h2.symm.trans h1
theorem whl_eq {S T : Type} (f : S → Option (S ⊕ T)) (s : S) : whl f s = (f s).bind fun r => match r with
    | .inl s' => whl f s'
    | .inr t => some t := by
  apply Option.ext
  intro t
  rw [whl_iff]
  constructor
  · rintro ⟨n, h⟩
    cases n with
    | zero => cases h
    | succ n =>
      unfold wh_ at h
      cases hf : f s with
      | none => rw [hf] at h; cases h
      | some r =>
        rw [hf] at h
        cases r with
        | inl s' => exact whl_iff.mpr ⟨n, h⟩
        | inr t' => exact h
  · intro h
    cases hf : f s with
    | none => rw [hf] at h; cases h
    | some r =>
      rw [hf] at h
      cases r with
      | inl s' =>
        obtain ⟨n, hn⟩ := whl_iff.mp h
        exact ⟨n + 1, by unfold wh_; rw [hf]; exact hn⟩
      | inr t' => exact ⟨1, by unfold wh_; rw [hf]; exact h⟩
/-- out of a loop -/
def xr_ {S T : Type} (o : Option T) : Option (S ⊕ T) := o.map Sum.inr
/-- behind a call that may throw -/
def bx_ {V T : Type} (o : Option ((V ⊕ Nat) × ph_t)) (k : V → ph_t → Option T) (kx : Nat → ph_t → Option T) : Option T := o.bind fun p => match p.1 with
  | .inl v => k v p.2
  | .inr q => kx q p.2
