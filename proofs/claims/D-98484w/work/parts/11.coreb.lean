/-! CORE B: the relation between the pure heap and the machine's -/
abbrev gv_t : Type := State × (Nat → Option Nat) × va_G × (Nat → ClassId) × List vw_C × (Nat → Nat → FieldType) × Launch
abbrev gv_s (G : gv_t) : State := G.1
abbrev gv_x (G : gv_t) : Nat → Option Nat := G.2.1
abbrev gv_D (G : gv_t) : va_G := G.2.2.1
abbrev gv_a (G : gv_t) : Nat → ClassId := G.2.2.2.1
abbrev gv_c (G : gv_t) : List vw_C := G.2.2.2.2.1
abbrev gv_f (G : gv_t) : Nat → Nat → FieldType := G.2.2.2.2.2.1
abbrev gv_l (G : gv_t) : Launch := G.2.2.2.2.2.2
def gv_B (G : gv_t) : Nat := (gv_s G).heap.size
/-- ids below 64 stand for cells that were there before (texts, statics); the others for the cells made since -/
def rm_ (G : gv_t) (r : Option Nat) : Option Nat := r.bind fun k => if k < 64 then gv_x G k else some (gv_B G + (k - 64))
def rf_ (G : gv_t) (r : Option Nat) : Value := va_rf (rm_ G r)
theorem rf_some {G : gv_t} {a : Nat} (h : 64 ≤ a) : rf_ G (some a) = .ref (gv_B G + (a - 64)) := by
  simp [rf_, rm_, va_rf, Nat.not_lt.mpr h]
theorem rf_none {G : gv_t} : rf_ G none = .null := rfl
def at_ (t : Nat) : FieldType := match t with
  | 20 => .int
  | 21 => .long
  | 22 => .byte
  | 23 => .boolean
  | 24 => .object "java/lang/String"
  | 25 => .object "TruthBridge$Rule"
  | 26 => .object "TruthBridge$Image"
  | _ => .object "TruthBridge$Clause"
def va_h (G : gv_t) (h : ph_t) (k : Nat) : vp_A := (ph_N h k, if ph_T h k = 21 then .inr (.inl (ph_L h k)) else if ph_T h k < 24 then .inl (ph_I h k) else .inr (.inr (.inr (.inr (fun j => rm_ G (ph_R h k j))))))
def fv_ (G : gv_t) (h : ph_t) (k : Nat) (ty : FieldType) (j : Nat) : Value := match ty with
  | .long => .long (ph_L h k j)
  | .object _ => rf_ G (ph_R h k j)
  | .array _ => rf_ G (ph_R h k j)
  | _ => .int (ph_I h k j)
def ce_ (G : gv_t) (h : ph_t) (k : Nat) (H : Heap) : Prop :=
  (ph_T h k < 20 → ∃ r : vw_C, (gv_c G)[ph_T h k]? = some r ∧ t_OB (gv_B G + (k - 64)) ((gv_D G).1 (ph_T h k)) r.2.2 ((gv_D G).2 (ph_T h k)) H (fun j => fv_ G h k (gv_f G (ph_T h k) j) j)) ∧
  (20 ≤ ph_T h k → ph_T h k < 28 → H[gv_B G + (k - 64)]? = some (vp_cell (gv_a G (ph_T h k)) (va_h G h k)))
def PR (G : gv_t) (h : ph_t) (H : Heap) : Prop :=
  H.size + 64 = gv_B G + ph_z h ∧ (∀ q, q < gv_B G → H[q]? = (gv_s G).heap[q]?) ∧ (∀ k, ph_T h k ≠ 99 → 64 ≤ k ∧ k < ph_z h) ∧ ∀ k, 64 ≤ k → ce_ G h k H
theorem ce_.same {G : gv_t} {h h' : ph_t} {k : Nat} {H H' : Heap} (c : ce_ G h k H) (hT : ph_T h' k = ph_T h k) (hN : ph_N h' k = ph_N h k) (hI : ph_I h' k = ph_I h k) (hL : ph_L h' k = ph_L h k) (hR : ph_R h' k = ph_R h k) (hH : H'[gv_B G + (k - 64)]? = H[gv_B G + (k - 64)]?) : ce_ G h' k H' := by
  have e : va_h G h' k = va_h G h k := by unfold va_h; rw [hT, hN, hI, hL, hR]
  refine ⟨fun h1 => ?_, fun h1 h2 => ?_⟩
  · rw [hT] at h1
    obtain ⟨r, c1, c2⟩ := c.1 h1
    refine ⟨r, by rw [hT]; exact c1, ?_⟩
    rw [hT]
    refine (c2.kept hH).to (fun j _ => ?_)
    unfold fv_
    rw [hI, hL, hR]
  · rw [hT] at h1 h2
    rw [hT, e, hH]
    exact c.2 h1 h2
/-- one cell is written -/
theorem PR.put {G : gv_t} {h h' : ph_t} {H H' : Heap} {k : Nat} (P : PR G h H) (hk : 64 ≤ k) (hT : ∀ b, ph_T h' b = ph_T h b) (hN : ∀ b, ph_N h' b = ph_N h b) (hz : ph_z h' = ph_z h) (hI : ∀ b, b ≠ k → ph_I h' b = ph_I h b) (hL : ∀ b, b ≠ k → ph_L h' b = ph_L h b) (hR : ∀ b, b ≠ k → ph_R h' b = ph_R h b) (z : H'.size = H.size) (oq : ∀ q : Nat, q ≠ gv_B G + (k - 64) → H'[q]? = H[q]?) (c : ce_ G h' k H') : PR G h' H' := by
  obtain ⟨p1, p2, p3, p4⟩ := P
  refine ⟨by rw [z, hz]; exact p1, fun q hq => ?_, fun b hb => ?_, fun b hb => ?_⟩
  · rw [oq q (by omega)]
    exact p2 q hq
  · rw [hT] at hb
    rw [hz]
    exact p3 b hb
  · by_cases e : b = k
    · rw [e]; exact c
    · exact (p4 b hb).same (hT b) (hN b) (hI b e) (hL b e) (hR b e) (oq _ (by omega))
/-- one cell is new -/
theorem PR.push {G : gv_t} {h : ph_t} {H H' : Heap} {t n : Nat} (P : PR G h H) (ht : t ≠ 99) (z : H'.size = H.size + 1) (oq : ∀ q : Nat, q < H.size → H'[q]? = H[q]?) (c : ce_ G (ph_al h t n) (ph_z h) H') (hB : gv_B G ≤ H.size) : PR G (ph_al h t n) H' := by
  obtain ⟨p1, p2, p3, p4⟩ := P
  have hz : 64 ≤ ph_z h := by omega
  refine ⟨?_, fun q hq => ?_, fun b hb => ?_, fun b hb => ?_⟩
  · show H'.size + 64 = gv_B G + (ph_z h + 1)
    omega
  · rw [oq q (by omega)]
    exact p2 q hq
  · show 64 ≤ b ∧ b < ph_z h + 1
    by_cases e : b = ph_z h
    · omega
    · have hb' : ph_T h b ≠ 99 := by
        have : ph_T (ph_al h t n) b = ph_T h b := by simp [ph_al, ph_T, e]
        rw [this] at hb
        exact hb
      have := p3 b hb'
      omega
  · by_cases e : b = ph_z h
    · rw [e]; exact c
    · have hT : ph_T (ph_al h t n) b = ph_T h b := by simp [ph_al, ph_T, e]
      by_cases hb' : ph_T h b = 99
      · refine ⟨fun h1 => ?_, fun h1 h2 => ?_⟩
        · rw [hT, hb'] at h1; omega
        · rw [hT, hb'] at h2; omega
      · have h9 := p3 b hb'
        refine (p4 b hb).same hT ?_ ?_ ?_ ?_ (oq _ (by omega))
        · simp [ph_al, ph_N, e]
        · funext j; simp [ph_al, ph_I, e]
        · funext j; simp [ph_al, ph_L, e]
        · funext j; simp [ph_al, ph_R, e]
theorem PR.B {G : gv_t} {h : ph_t} {H : Heap} (P : PR G h H) (hz : 64 ≤ ph_z h) : gv_B G ≤ H.size := by
  have := P.1
  omega
-- the pure heap's simple facts
theorem wI_T (h : ph_t) (a k : Nat) (v : Int32) (b : Nat) : ph_T (ph_wI h a k v) b = ph_T h b := rfl
theorem wI_N (h : ph_t) (a k : Nat) (v : Int32) (b : Nat) : ph_N (ph_wI h a k v) b = ph_N h b := rfl
theorem wI_L (h : ph_t) (a k : Nat) (v : Int32) (b : Nat) : ph_L (ph_wI h a k v) b = ph_L h b := rfl
theorem wI_R (h : ph_t) (a k : Nat) (v : Int32) (b : Nat) : ph_R (ph_wI h a k v) b = ph_R h b := rfl
theorem wI_I (h : ph_t) (a k : Nat) (v : Int32) (b j : Nat) : ph_I (ph_wI h a k v) b j = if b = a ∧ j = k then v else ph_I h b j := rfl
theorem wI_z (h : ph_t) (a k : Nat) (v : Int32) : ph_z (ph_wI h a k v) = ph_z h := rfl
theorem wI_s (h : ph_t) (a k : Nat) (v : Int32) : ph_s (ph_wI h a k v) = ph_s h := rfl
theorem wL_T (h : ph_t) (a k : Nat) (v : Int64) (b : Nat) : ph_T (ph_wL h a k v) b = ph_T h b := rfl
theorem wL_N (h : ph_t) (a k : Nat) (v : Int64) (b : Nat) : ph_N (ph_wL h a k v) b = ph_N h b := rfl
theorem wL_I (h : ph_t) (a k : Nat) (v : Int64) (b : Nat) : ph_I (ph_wL h a k v) b = ph_I h b := rfl
theorem wL_R (h : ph_t) (a k : Nat) (v : Int64) (b : Nat) : ph_R (ph_wL h a k v) b = ph_R h b := rfl
theorem wL_L (h : ph_t) (a k : Nat) (v : Int64) (b j : Nat) : ph_L (ph_wL h a k v) b j = if b = a ∧ j = k then v else ph_L h b j := rfl
theorem wL_z (h : ph_t) (a k : Nat) (v : Int64) : ph_z (ph_wL h a k v) = ph_z h := rfl
theorem wL_s (h : ph_t) (a k : Nat) (v : Int64) : ph_s (ph_wL h a k v) = ph_s h := rfl
theorem wR_T (h : ph_t) (a k : Nat) (v : Option Nat) (b : Nat) : ph_T (ph_wR h a k v) b = ph_T h b := rfl
theorem wR_N (h : ph_t) (a k : Nat) (v : Option Nat) (b : Nat) : ph_N (ph_wR h a k v) b = ph_N h b := rfl
theorem wR_I (h : ph_t) (a k : Nat) (v : Option Nat) (b : Nat) : ph_I (ph_wR h a k v) b = ph_I h b := rfl
theorem wR_L (h : ph_t) (a k : Nat) (v : Option Nat) (b : Nat) : ph_L (ph_wR h a k v) b = ph_L h b := rfl
theorem wR_R (h : ph_t) (a k : Nat) (v : Option Nat) (b j : Nat) : ph_R (ph_wR h a k v) b j = if b = a ∧ j = k then v else ph_R h b j := rfl
theorem wR_z (h : ph_t) (a k : Nat) (v : Option Nat) : ph_z (ph_wR h a k v) = ph_z h := rfl
theorem wR_s (h : ph_t) (a k : Nat) (v : Option Nat) : ph_s (ph_wR h a k v) = ph_s h := rfl
/-! the judgements -/
abbrev fx_t : Type := Program × Launch × Env × Room × State × MethodId × Array Value × List Frame × Method × Code × (State → Prop)
abbrev fx_p (X : fx_t) : Program := X.1
abbrev fx_l (X : fx_t) : Launch := X.2.1
abbrev fx_e (X : fx_t) : Env := X.2.2.1
abbrev fx_r (X : fx_t) : Room := X.2.2.2.1
abbrev fx_s (X : fx_t) : State := X.2.2.2.2.1
abbrev fx_m (X : fx_t) : MethodId := X.2.2.2.2.2.1
abbrev fx_a (X : fx_t) : Array Value := X.2.2.2.2.2.2.1
abbrev fx_b (X : fx_t) : List Frame := X.2.2.2.2.2.2.2.1
abbrev fx_h (X : fx_t) : Method := X.2.2.2.2.2.2.2.2.1
abbrev fx_c (X : fx_t) : Code := X.2.2.2.2.2.2.2.2.2.1
abbrev fx_q (X : fx_t) : State → Prop := X.2.2.2.2.2.2.2.2.2.2
/-- the pure heap at the body's start and at its end, and what is known of the machine -/
abbrev zx_t : Type := ph_t × ph_t × (fx_t → Prop)
abbrev zx_0 (Z : zx_t) : ph_t := Z.1
abbrev zx_1 (Z : zx_t) : ph_t := Z.2.1
abbrev zx_k (Z : zx_t) : fx_t → Prop := Z.2.2
/-- what is known at the law's entry -/
def gv_ok (G : gv_t) : Prop :=
  (∀ (c : Nat) (q : vw_C), (gv_c G)[c]? = some q → u_Kn (gv_s G) q.1 q.2.1 q.2.2 ((gv_D G).1 c) ((gv_D G).2 c)) ∧
  (∀ t, 20 ≤ t → t < 28 → ArrOfT (gv_s G) (gv_a G t) (at_ t) ∧ va_RA (gv_s G) (gv_a G t) (at_ t)) ∧
  (∃ A : Array Value, ∀ w ∈ lw_tbl, w.before A (gv_s G) = true)
/-- a method's body at work: the machine, its code, its class, its words, its answer's type -/
def Cx (G : gv_t) (Z : zx_t) (X : fx_t) (cc : ByteArray) (own : String) (nL : Nat) (ret : Option FieldType) : Prop :=
  (fx_p X).tables.exec = Jvm.exec ∧ (fx_c X).code = cc ∧ (fx_c X).maxLocals = nL ∧ (fx_s X).vm.findClass own = some (fx_m X).cls ∧ (∀ w ∈ lw_all, w.before (fx_a X) (fx_s X) = true) ∧
  (fx_h X).locks = false ∧ (fx_h X).sig.returnType = ret ∧ (gv_s G).WarmedH (fx_s X).vm ∧ gv_B G ≤ (fx_s X).heap.size ∧ gv_ok G ∧
  (fx_r X).cells = ph_z (zx_1 Z) - ph_z (zx_0 Z) ∧ (fx_r X).slots = ph_s (zx_1 Z) - ph_s (zx_0 Z) ∧ 64 ≤ ph_z (zx_0 Z) ∧ fx_l X = gv_l G
/-- a local's value, by its kind -/
abbrev pa_t : Type := Int32 ⊕ Int64 ⊕ Option Nat
def pv_ (G : gv_t) (a : pa_t) : Value := match a with
  | .inl x => .int x
  | .inr (.inl x) => .long x
  | .inr (.inr r) => rf_ G r
def pj_ (a : pa_t) : Bool := match a with
  | .inr (.inl _) => true
  | _ => false
theorem rf_cat {G : gv_t} {r : Option Nat} : (rf_ G r).category = 1 := by
  unfold rf_
  cases rm_ G r <;> rfl
theorem pv_cat {G : gv_t} (a : pa_t) : ((pv_ G a).category == 2) = pj_ a := by
  rcases a with x | x | x
  · rfl
  · rfl
  · show ((rf_ G x).category == 2) = false
    rw [rf_cat]
    rfl
abbrev lo_t : Type := List (Nat × pa_t)
def pl_ (G : gv_t) (L : lo_t) : List (Nat × Value) := L.map fun q => (q.1, pv_ G q.2)
theorem pl_at {G : gv_t} {L : lo_t} {j i : Nat} {a : pa_t} (h : L[j]? = some (i, a)) : (pl_ G L)[j]? = some (i, pv_ G a) := by
  unfold pl_
  rw [List.getElem?_map, h]
  rfl
theorem pl_pick {G : gv_t} {L L' : lo_t} {ks : List Nat} (h : ks.filterMap (fun k => L[k]?) = L') : lv_pick (pl_ G L) ks = pl_ G L' := by
  subst h
  unfold lv_pick pl_
  induction ks with
  | nil => rfl
  | cons k ks ih =>
    rw [List.filterMap_cons, List.filterMap_cons, List.getElem?_map]
    cases L[k]? with
    | none => exact ih
    | some q => exact congrArg _ ih
theorem pl_st1 {G : gv_t} {L L' : lo_t} {i : Nat} {a : pa_t} (h : (i, a) :: L.filter (fun q => !(q.1 == i) && !(q.1 + 1 == i && pj_ q.2)) = L') : (i, pv_ G a) :: (pl_ G L).filter (fun q => !(q.1 == i) && !(q.1 + 1 == i && q.2.category == 2)) = pl_ G L' := by
  subst h
  unfold pl_
  rw [List.map_cons, List.filter_map]
  congr 2
  apply List.filter_congr
  intro q _
  simp only [Function.comp, pv_cat]
theorem pl_st2 {G : gv_t} {L L' : lo_t} {i : Nat} {a : pa_t} (h : (i, a) :: L.filter (fun q => !(q.1 == i) && (!(q.1 == i + 1) && !(q.1 + 1 == i && pj_ q.2))) = L') : (i, pv_ G a) :: (pl_ G L).filter (fun q => !(q.1 == i) && (!(q.1 == i + 1) && !(q.1 + 1 == i && q.2.category == 2))) = pl_ G L' := by
  subst h
  unfold pl_
  rw [List.map_cons, List.filter_map]
  congr 2
  apply List.filter_congr
  intro q _
  simp only [Function.comp, pv_cat]
def la_ : Nat → List pa_t → lo_t
  | _, [] => []
  | i, a :: as => (i, a) :: la_ (if pj_ a = true then i + 2 else i + 1) as
theorem la_eq {G : gv_t} : ∀ (as : List pa_t) (i : Nat), lv_args i (as.map (pv_ G)) = pl_ G (la_ i as)
  | [], _ => rfl
  | a :: as, i => by
    have h := pv_cat (G := G) a
    show (i, pv_ G a) :: lv_args _ _ = (i, pv_ G a) :: pl_ G (la_ _ as)
    rw [← la_eq as]
    congr 2
    by_cases q : pj_ a = true
    · rw [q] at h
      rw [if_pos q, if_pos (by simpa using h)]
    · rw [if_neg q, if_neg (fun z => q (by rw [← h, z]; rfl))]
def lz_ (as : List pa_t) : Nat := (as.map fun a => if pj_ a = true then 2 else 1).sum
theorem lz_eq {G : gv_t} : ∀ (as : List pa_t), (lg_sl (as.map (pv_ G))).length = lz_ as
  | [] => rfl
  | a :: as => by
    have h := pv_cat (G := G) a
    have ih := lz_eq (G := G) as
    unfold lg_sl lz_ at *
    rw [List.map_cons, List.flatMap_cons, List.length_append, List.map_cons, List.sum_cons, ih]
    congr 1
    by_cases q : pj_ a = true
    · rw [q] at h
      rw [if_pos q, if_pos (by simpa using h)]
      rfl
    · rw [if_neg q, if_neg (fun z => q (by rw [← h, z]; rfl))]
      rfl
def Cz (G : gv_t) (Z : zx_t) (cc : ByteArray) (own : String) (nL : Nat) (ret : Option FieldType) : Prop := ∀ X, zx_k Z X → Cx G Z X cc own nL ret
def HW (G : gv_t) (Z : zx_t) (pc : Nat) (L : lo_t) (st : List Value) (h : ph_t) : Prop :=
  (ph_z h ≤ ph_z (zx_1 Z) ∧ ph_s h ≤ ph_s (zx_1 Z)) ∧ ∀ X, zx_k Z X → ∀ (H : Heap) (locs : List Loc) (ls : Array Slot), ph_z (zx_0 Z) ≤ ph_z h → ph_s (zx_0 Z) ≤ ph_s h → PR G h H → va_S (fun q => gv_B G ≤ q) (fx_s X).heap H locs → lv_has ls (fx_c X).maxLocals (pl_ G L) →
    W (fx_p X) (fx_l X) (fx_e X) (fx_r X) (fx_s X) (fx_m X) (fx_a X) (fx_b X) (fx_h X) (fx_c X) H locs (ph_z h - ph_z (zx_0 Z)) (ph_s h - ph_s (zx_0 Z)) (fx_q X) (F0 (fx_m X) pc ls st)
def Tr {T : Type} (G : gv_t) (Z : zx_t) (Gd : T → Prop) (pc : Nat) (L : lo_t) (st : List Value) (h : ph_t) (o : Option T) : Prop := ∀ r : T, o = some r → Gd r → HW G Z pc L st h
