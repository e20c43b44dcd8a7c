/-! CORE F: new cells, ends, contracts, calls, loops -/
def nf_ (ty : FieldType) : Bool := match ty with
  | .float => false
  | .double => false
  | _ => true
theorem al_dflt {G : gv_t} {h : ph_t} {c n j : Nat} {ty : FieldType} (e : nf_ ty = true) : defaultValue ty = fv_ G (ph_al h c n) (ph_z h) ty j := by
  cases ty <;> first | (simp [nf_] at e; done) | simp [defaultValue, fv_, ph_al, ph_I, ph_L, ph_R, rf_none]
theorem al_T {h : ph_t} {t n : Nat} : ph_T (ph_al h t n) (ph_z h) = t := by simp [ph_al, ph_T]
theorem al_z {h : ph_t} {t n : Nat} : ph_z (ph_al h t n) = ph_z h + 1 := rfl
theorem al_s {h : ph_t} {t n : Nat} : ph_s (ph_al h t n) = ph_s h + n := rfl
theorem vaS_push {A : Nat → Prop} {H0 H H1 : Heap} {locs : List Loc} (hS : va_S A H0 H locs) (z : H1.size = H.size + 1) (oq : ∀ q : Nat, q < H.size → H1[q]? = H[q]?) : va_S A H0 H1 locs :=
  ⟨Nat.le_trans hS.1 (by omega), fun x h1 h2 => (oq x (Nat.lt_of_lt_of_le h1 hS.1)).trans (hS.2.1 x h1 h2), hS.2.2⟩
section CF
variable {T : Type} {G : gv_t} {Z : zx_t} {Gd : T → Prop} {cc : ByteArray} {own : String} {nL : Nat} {ret : Option FieldType} {pc : Nat} {L : lo_t} {st : List Value} {h : ph_t}
theorem tr_new {c N n idx : Nat} {Cn : String} {Tb : u_T} {ty : Nat → FieldType} {o : Nat → ph_t → Option T} (C : Cz G Z cc own nL ret) (pc' : Nat) (hp : pc + 3 = pc') (hd : decode cc pc = .ok (.new idx, 3)) (kc : kc_ G c Cn Tb N ty) (hnf : ∀ j, j < N → nf_ (ty j) = true) (hcl : Cond.classLink own idx Cn ∈ lw_all) (hin : Cond.instantiable Cn n ∈ lw_all) (hini : Cond.initialized Cn ∈ lw_all)
    (k : ∀ a h', Tr G Z Gd pc' L (rf_ G (some a) :: st) h' (o a h')) : Tr G Z Gd pc L st h (nw_ h c n o) := by
  subst hp
  intro r hr hg
  unfold nw_ at hr
  have K := k _ _ r hr hg
  obtain ⟨K1, K2⟩ := K
  rw [al_z, al_s] at K1
  refine ⟨⟨by omega, by omega⟩, fun X kx H locs ls a1 a2 a3 a4 a5 => ?_⟩
  have C := C X kx
  obtain ⟨k1, k2, k3, k4, k5, k6⟩ := kc
  have hKn := cx_kn C k2
  have hR := cx_R C
  have h32 : 64 ≤ ph_z h := by omega
  have hB := a3.B h32
  have hz : H.size = gv_B G + (ph_z h - 64) := by have := a3.1; omega
  refine W.newcK C.1 C.2.1 C.2.2.2.1 (cx_w C hcl) (cx_w C hin) (cx_w C hini) rfl hd (by rw [hR.1]; omega) (by rw [hR.2.1]; omega) hKn.2.1 rfl fun H1 kC hkC e1 z1 o1 => ?_
  refine W.cs (cells' := ph_z (ph_al h c n) - ph_z (zx_0 Z)) (slots' := ph_s (ph_al h c n) - ph_s (zx_0 Z)) (by rw [al_z]; omega) (by rw [al_s]; omega) ?_
  have K3 := K2 X kx H1 locs ls (by rw [al_z]; omega) (by rw [al_s]; omega) (a3.push (by omega) z1 o1 ⟨fun _ => ⟨_, by rw [al_T]; exact k2, ?_⟩, fun q _ => ?_⟩ hB) (vaS_push a4 z1 o1) a5
  · rw [rf_some h32, ← hz] at K3
    exact K3
  · rw [al_T, ← hz]
    refine (u_born ty (C.2.2.2.2.1) k4 hKn hkC e1 k5).to (fun j hj => ?_)
    rw [k3]
    exact al_dflt (hnf j hj)
  · rw [al_T] at q
    omega
theorem na_some {β : Type} {h : ph_t} {t : Nat} {n : Int32} {k : Nat → ph_t → Option β} {r : β} (e : na_ h t n k = some r) : 0 ≤ n.toInt ∧ n.toInt ≤ 60000000 ∧ k (ph_z h) (ph_al h t n.toNatClampNeg) = some r := by
  unfold na_ at e
  split at e
  · rename_i q
    exact ⟨q.1, q.2, e⟩
  · cases e
theorem al_va {G : gv_t} {h : ph_t} {t n : Nat} (ht : t = 20 ∨ t = 21 ∨ t = 22 ∨ t = 23) (cA : ClassId) : vp_cell cA (va_h G (ph_al h t n) (ph_z h)) = arrV cA n (fun _ => defaultValue (at_ t)) := by
  have eI : ph_I (ph_al h t n) (ph_z h) = fun _ => 0 := by funext j; simp [ph_al, ph_I]
  have eL : ph_L (ph_al h t n) (ph_z h) = fun _ => 0 := by funext j; simp [ph_al, ph_L]
  have eN : ph_N (ph_al h t n) (ph_z h) = n := by simp [ph_al, ph_N]
  by_cases q : t = 21
  · rw [va_hl (by rw [al_T]; exact q), vp_cell_l, eL, eN, q]
    rfl
  · rw [va_hi (by rw [al_T]; omega), vp_cell_i, eI, eN]
    rcases ht with rfl | rfl | rfl | rfl <;> first | rfl | exact absurd rfl q
theorem tr_newa {t : Nat} {n : Int32} {atype : ArrayType} {o : Nat → ph_t → Option T} (C : Cz G Z cc own nL ret) (pc' : Nat) (hp : pc + 2 = pc') (hd : decode cc pc = .ok (.newarray atype, 2)) (ht : t = 20 ∨ t = 21 ∨ t = 22 ∨ t = 23) (hty : newarray.typeOf atype = at_ t) (hw : Cond.arrayClass (at_ t) ∈ lw_all)
    (k : ∀ a h', Tr G Z Gd pc' L (rf_ G (some a) :: st) h' (o a h')) : Tr G Z Gd pc L (.int n :: st) h (na_ h t n o) := by
  subst hp
  intro r hr hg
  obtain ⟨n1, n2, hr⟩ := na_some hr
  have K := k _ _ r hr hg
  obtain ⟨K1, K2⟩ := K
  rw [al_z, al_s] at K1
  refine ⟨⟨by omega, by omega⟩, fun X kx H locs ls a1 a2 a3 a4 a5 => ?_⟩
  have C := C X kx
  have hR := cx_R C
  have h32 : 64 ≤ ph_z h := by omega
  have hB := a3.B h32
  have hz : H.size = gv_B G + (ph_z h - 64) := by have := a3.1; omega
  have hn : ¬ n < 0 := fun q => by
    have := Int32.lt_iff_toInt_lt.mp q
    simp at this
    omega
  have hcl : (n.toNatClampNeg : Int) = n.toInt := by
    show ((n.toInt.toNat : Nat) : Int) = n.toInt
    omega
  have hb8 : componentBytes (newarray.typeOf atype) ≤ 8 := by
    rw [hty]
    rcases ht with rfl | rfl | rfl | rfl <;> decide
  have hby : n.toNatClampNeg * componentBytes (newarray.typeOf atype) ≤ 536870912 := by
    have : n.toNatClampNeg * componentBytes (newarray.typeOf atype) ≤ 60000000 * 8 := Nat.mul_le_mul (by omega) hb8
    omega
  refine va_newaK C.1 C.2.1 (by rw [hty]; exact cx_w C hw) rfl hd rfl hn rfl hby (by rw [hR.1]; omega) (by rw [hR.2.1]; omega) rfl fun H1 cA e1 z1 o1 hAr hNm => ?_
  refine W.cs (cells' := ph_z (ph_al h t n.toNatClampNeg) - ph_z (zx_0 Z)) (slots' := ph_s (ph_al h t n.toNatClampNeg) - ph_s (zx_0 Z)) (by rw [al_z]; omega) (by rw [al_s]; omega) ?_
  have hcA : cA = gv_a G t := by
    have hRA := (cx_ar C (t := t) (by omega) (by omega)).2
    rw [hty] at hNm
    rcases ht with rfl | rfl | rfl | rfl <;> exact Option.some.inj (hNm.symm.trans hRA)
  have K3 := K2 X kx H1 locs ls (by rw [al_z]; omega) (by rw [al_s]; omega) (a3.push (by omega) z1 o1 ⟨fun q => ?_, fun _ _ => ?_⟩ hB) (vaS_push a4 z1 o1) a5
  · rw [rf_some h32, ← hz] at K3
    exact K3
  · rw [al_T] at q
    omega
  · rw [al_T, ← hz, e1, al_va ht, hty, hcA]
theorem tr_anewa {t idx : Nat} {n : Int32} {Cn : String} {o : Nat → ph_t → Option T} (C : Cz G Z cc own nL ret) (pc' : Nat) (hp : pc + 3 = pc') (hd : decode cc pc = .ok (.anewarray idx, 3)) (t1 : 24 ≤ t) (t2 : t < 28) (hty : at_ t = .object Cn) (hcl : Cond.classLink own idx Cn ∈ lw_all) (hw : Cond.arrayOver (.object Cn) ∈ lw_tbl)
    (k : ∀ a h', Tr G Z Gd pc' L (rf_ G (some a) :: st) h' (o a h')) : Tr G Z Gd pc L (.int n :: st) h (na_ h t n o) := by
  subst hp
  intro r hr hg
  obtain ⟨n1, n2, hr⟩ := na_some hr
  have K := k _ _ r hr hg
  obtain ⟨K1, K2⟩ := K
  rw [al_z, al_s] at K1
  refine ⟨⟨by omega, by omega⟩, fun X kx H locs ls a1 a2 a3 a4 a5 => ?_⟩
  have C := C X kx
  have hR := cx_R C
  have h32 : 64 ≤ ph_z h := by omega
  have hB := a3.B h32
  have hz : H.size = gv_B G + (ph_z h - 64) := by have := a3.1; omega
  have hn : ¬ n < 0 := fun q => by
    have := Int32.lt_iff_toInt_lt.mp q
    simp at this
    omega
  have hcl9 : (n.toNatClampNeg : Int) = n.toInt := by
    show ((n.toInt.toNat : Nat) : Int) = n.toInt
    omega
  have hAO : va_AO Cn (fx_s X) := cx_ao C hw
  refine W.anew C.1 C.2.1 C.2.2.2.1 (cx_w C hcl) (va_AO.use hAO) rfl hd rfl hn (by omega) (by rw [hR.1]; omega) (by rw [hR.2.1]; omega) fun cA kA comp f1 f2 f3 f4 => ?_
  generalize hH1 : H.push ({ cls := cA, slots := Array.replicate n.toNatClampNeg .null, vm := .none } : Cell) = H1
  have z1 : H1.size = H.size + 1 := by rw [← hH1, Array.size_push]
  have e1 : H1[H.size]? = some (arrV cA n.toNatClampNeg (fun _ => .null)) := by rw [← hH1, Array.getElem?_push_size, ← arrV_new]
  have o1 : ∀ q : Nat, q < H.size → H1[q]? = H[q]? := fun q hq => by rw [← hH1, Array.getElem?_push, if_neg (Nat.ne_of_lt hq)]
  refine W.cs (cells' := ph_z (ph_al h t n.toNatClampNeg) - ph_z (zx_0 Z)) (slots' := ph_s (ph_al h t n.toNatClampNeg) - ph_s (zx_0 Z)) (by rw [al_z]; omega) (by rw [al_s]; omega) ?_
  have hcA : cA = gv_a G t := by
    have hRA := (cx_ar C (t := t) (by omega) (by omega)).2
    rw [hty] at hRA
    obtain ⟨_, _, _, _, _, h4⟩ := hRA
    exact Option.some.inj (f1.symm.trans h4)
  have K3 := K2 X kx H1 locs ls (by rw [al_z]; omega) (by rw [al_s]; omega) (a3.push (by omega) z1 o1 ⟨fun q => ?_, fun _ _ => ?_⟩ hB) (vaS_push a4 z1 o1) a5
  · rw [rf_some h32, ← hz] at K3
    exact K3
  · rw [al_T] at q
    omega
  · rw [al_T, ← hz, e1, hcA]
    rw [va_hr (by rw [al_T]; exact t1), vp_cell_q]
    simp [ph_al, ph_N, ph_R, rm_, va_rf]
-- the pure side's own steps
theorem tr_nmI {x : Int32} {o : Int32 → Option T} (k : ∀ v, Tr G Z Gd pc L (.int v :: st) h (o v)) : Tr G Z Gd pc L (.int x :: st) h (nm_ x o) := k x
theorem tr_nmL {x : Int64} {o : Int64 → Option T} (k : ∀ v, Tr G Z Gd pc L (.long v :: st) h (o v)) : Tr G Z Gd pc L (.long x :: st) h (nm_ x o) := k x
theorem tr_sub {L' : lo_t} {o : Option T} (ks : List Nat) (hl : ks.filterMap (fun k => L[k]?) = L') (k : Tr G Z Gd pc L' st h o) : Tr G Z Gd pc L st h o := by
  intro r hr hg
  have K := k r hr hg
  exact ⟨K.1, fun X kx H locs ls a b c d e => K.2 X kx H locs ls a b c d (lv_sub e ks (pl_pick hl))⟩
-- loops
def gl_ {S : Type} (G : gv_t) (Z : zx_t) (pc : Nat) (Ls : S → lo_t) (hs : S → ph_t) (Gd : T → Prop) : S ⊕ T → Prop := fun r => match r with
  | .inl s => HW G Z pc (Ls s) [] (hs s)
  | .inr t => Gd t
theorem tr_whl {S : Type} {f : S → Option (S ⊕ T)} (Ls : S → lo_t) (hs : S → ph_t) (k : ∀ s, Tr G Z (gl_ G Z pc Ls hs Gd) pc (Ls s) [] (hs s) (f s)) (s : S) : Tr G Z Gd pc (Ls s) [] (hs s) (whl f s) := by
  intro r hr hg
  obtain ⟨n, hn⟩ := whl_iff.mp hr
  clear hr
  induction n generalizing s with
  | zero => cases hn
  | succ n ih =>
    unfold wh_ at hn
    obtain ⟨q, h1, h2⟩ := bind_some_of hn
    cases q with
    | inl s' => exact k s _ h1 (ih s' h2)
    | inr t =>
      cases h2
      exact k s _ h1 hg
theorem tr_back {S : Type} {pc0 : Nat} {Ls : S → lo_t} {hs : S → ph_t} {s : S} (ks : List Nat) (hl : ks.filterMap (fun k => L[k]?) = Ls s) : Tr G Z (gl_ G Z pc0 Ls hs Gd) pc0 L [] (hs s) (some (.inl s)) := by
  intro r hr hg
  cases hr
  have K : HW G Z pc0 (Ls s) [] (hs s) := hg
  exact ⟨K.1, fun X kx H locs ls a b c d e => K.2 X kx H locs ls a b c d (lv_sub e ks (pl_pick hl))⟩
theorem tr_xr {S : Type} {pc0 : Nat} {Ls : S → lo_t} {hs : S → ph_t} {o : Option T} (k : Tr G Z Gd pc L st h o) : Tr G Z (gl_ G Z pc0 Ls hs Gd) pc L st h (xr_ o) := by
  intro r hr hg
  unfold xr_ at hr
  cases o with
  | none => cases hr
  | some t =>
    cases hr
    exact k t rfl hg
-- ends
def qe_ (G : gv_t) (Z : zx_t) (oE : Outcome) : Prop := ∀ X, zx_k Z X → fx_q X = MQ (fx_b X) (fun _ _ oc t => oc = oE ∧ PR G (zx_1 Z) t.heap) (fx_a X) (fx_s X) (ph_z (zx_1 Z) - ph_z (zx_0 Z)) (ph_s (zx_1 Z) - ph_s (zx_0 Z)) (fun q => gv_B G ≤ q)
def gd_ {V : Type} (ov : V → Option Value) (oE : Outcome) (hE : ph_t) : V × ph_t → Prop := fun r => oE = .returned (ov r.1) ∧ hE = r.2
def ov_I (v : Int32) : Option Value := some (.int v)
def ov_J (v : Int64) : Option Value := some (.long v)
def ov_A (G : gv_t) (v : Option Nat) : Option Value := some (rf_ G v)
def ov_V (_ : Unit) : Option Value := none
def rz_ (v : Int32) (h : ph_t) : Option (Int32 × ph_t) := if v = 0 ∨ v = 1 then some (v, h) else none
end CF
section CE
variable {G : gv_t} {Z : zx_t} {cc : ByteArray} {own : String} {nL : Nat} {ret : Option FieldType} {pc : Nat} {L : lo_t} {h : ph_t} {oE : Outcome}
theorem tr_iret {v : Int32} (C : Cz G Z cc own nL (some .int)) (E : qe_ G Z oE) (hd : decode cc pc = .ok (.ireturn, 1)) : Tr G Z (gd_ ov_I oE (zx_1 Z)) pc L [.int v] h (some (v, h)) := by
  intro r hr hg
  cases hr
  obtain ⟨g1, g2⟩ := hg
  dsimp only at g1 g2
  refine ⟨by rw [g2]; exact ⟨Nat.le_refl _, Nat.le_refl _⟩, fun X kx H locs ls a1 a2 a3 a4 a5 => ?_⟩
  have C := C X kx
  rw [E X kx, g2]
  exact W.iret C.1 C.2.1 C.2.2.2.2.2.2.1 (fun t ht hW => ⟨g1.symm, by rw [ht]; exact a3⟩) a4.2.2 hd C.2.2.2.2.2.1
theorem tr_zret {v : Int32} (C : Cz G Z cc own nL (some .boolean)) (E : qe_ G Z oE) (hd : decode cc pc = .ok (.ireturn, 1)) : Tr G Z (gd_ ov_I oE (zx_1 Z)) pc L [.int v] h (rz_ v h) := by
  intro r hr hg
  unfold rz_ at hr
  split at hr
  · rename_i q
    cases hr
    obtain ⟨g1, g2⟩ := hg
    dsimp only at g1 g2
    refine ⟨by rw [g2]; exact ⟨Nat.le_refl _, Nat.le_refl _⟩, fun X kx H locs ls a1 a2 a3 a4 a5 => ?_⟩
    have C := C X kx
    rw [E X kx, g2]
    exact W.zret C.1 C.2.1 C.2.2.2.2.2.2.1 (by rcases q with rfl | rfl <;> rfl) (fun t ht hW => ⟨g1.symm, by rw [ht]; exact a3⟩) a4.2.2 hd C.2.2.2.2.2.1
  · cases hr
theorem tr_lret {v : Int64} (C : Cz G Z cc own nL (some .long)) (E : qe_ G Z oE) (hd : decode cc pc = .ok (.lreturn, 1)) : Tr G Z (gd_ ov_J oE (zx_1 Z)) pc L [.long v] h (some (v, h)) := by
  intro r hr hg
  cases hr
  obtain ⟨g1, g2⟩ := hg
  dsimp only at g1 g2
  refine ⟨by rw [g2]; exact ⟨Nat.le_refl _, Nat.le_refl _⟩, fun X kx H locs ls a1 a2 a3 a4 a5 => ?_⟩
  have C := C X kx
  rw [E X kx, g2]
  exact W.lret C.1 C.2.1 C.2.2.2.2.2.2.1 (fun t ht hW => ⟨g1.symm, by rw [ht]; exact a3⟩) a4.2.2 hd C.2.2.2.2.2.1
theorem tr_vret (C : Cz G Z cc own nL none) (E : qe_ G Z oE) (hd : decode cc pc = .ok (.return_, 1)) : Tr G Z (gd_ ov_V oE (zx_1 Z)) pc L [] h (some ((), h)) := by
  intro r hr hg
  cases hr
  obtain ⟨g1, g2⟩ := hg
  dsimp only at g1 g2
  refine ⟨by rw [g2]; exact ⟨Nat.le_refl _, Nat.le_refl _⟩, fun X kx H locs ls a1 a2 a3 a4 a5 => ?_⟩
  have C := C X kx
  rw [E X kx, g2]
  exact W.vret C.1 C.2.1 C.2.2.2.2.2.2.1 (fun t ht hW => ⟨g1.symm, by rw [ht]; exact a3⟩) a4.2.2 hd C.2.2.2.2.2.1
theorem tr_aret {v : Option Nat} {rt : FieldType} (C : Cz G Z cc own nL (some rt)) (E : qe_ G Z oE) (hrt : fk_ rt = 2) (hd : decode cc pc = .ok (.areturn, 1)) : Tr G Z (gd_ (ov_A G) oE (zx_1 Z)) pc L [rf_ G v] h (some (v, h)) := by
  intro r hr hg
  cases hr
  obtain ⟨g1, g2⟩ := hg
  dsimp only at g1 g2
  refine ⟨by rw [g2]; exact ⟨Nat.le_refl _, Nat.le_refl _⟩, fun X kx H locs ls a1 a2 a3 a4 a5 => ?_⟩
  have C := C X kx
  rw [E X kx, g2]
  refine W.aret C.1 C.2.1 C.2.2.2.2.2.2.1 ?_ ?_ (fun t ht hW => ⟨g1.symm, by rw [ht]; exact a3⟩) a4.2.2 hd C.2.2.2.2.2.1
  · cases rt <;> first | exact Or.inl ⟨_, rfl⟩ | exact Or.inr ⟨_, rfl⟩ | (simp [fk_] at hrt)
  · unfold rf_
    cases rm_ G v with
    | none => exact Or.inl rfl
    | some q => exact Or.inr ⟨q, rfl⟩
end CE
