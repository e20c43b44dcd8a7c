/-! CORE O: the start: the world G out of what the claim gives -/
def rp_ : List (String × Nat) := [("TruthBridge", 42), ("TruthBridge", 44), ("TruthBridge", 46), ("TruthBridge", 48), ("TruthBridge", 50), ("TruthBridge", 56), ("TruthBridge", 61), ("TruthBridge", 63), ("TruthBridge", 65), ("TruthBridge", 67), ("TruthBridge", 69), ("TruthBridge", 71), ("TruthBridge", 73), ("TruthBridge", 75), ("TruthBridge", 77), ("TruthBridge$Fault", 1), ("TruthBridge$Text", 204), ("TruthBridge$Text", 217), ("TruthBridge$Text", 219), ("TruthBridge$Text", 253), ("TruthBridgeModel", 374), ("TruthBridgeModel", 376), ("TruthBridgeModel", 378), ("TruthBridgeModel", 380), ("TruthBridgeModel", 382), ("TruthBridgeModel", 384), ("TruthBridgeModel", 386), ("TruthBridgeModel", 388)]
def tm_ (i : Nat) : Term := match rp_[i]? with
  | some q => .string q.1 q.2
  | none => .int 0
def fl_0 : List Cond := flatC (Jvm.Cond.and given_1 narrow_1)
def st_r : List (String × Nat × String) := lw_tbl.filterMap fun w => match w with
  | .stringRef o k t => some (o, k, t)
  | _ => none
def va_S3 (tm : Term) : Cond := .exactly tm "java/lang/String"
theorem tx_ex : ∀ i, i < 28 → Cond.exactly (tm_ i) "java/lang/String" ∈ fl_0 := by decide +kernel
theorem tx_co : ∀ i, i < 28 → Cond.eq (.field (tm_ i) "java/lang/String" "coder" "B") (.int 0) ∈ fl_0 := by decide +kernel
theorem tx_ar : ∀ i, i < 28 → Cond.arrayOf (.field (tm_ i) "java/lang/String" "value" "[B") .byte ∈ fl_0 := by decide +kernel
theorem tx_le : ∀ i, i < 28 → Cond.eq (.length (.field (tm_ i) "java/lang/String" "value" "[B")) (.int (Int32.ofNat ((st_tx.map String.length).getD i 0))) ∈ fl_0 := by decide +kernel
theorem tx_el : ∀ i, i < 28 → ∀ j, j < (st_tx.map String.length).getD i 0 → Cond.eq (.elem (.field (tm_ i) "java/lang/String" "value" "[B") (.int (Int32.ofNat j))) (.int (((st_tx.map fun s => s.toList.map fun c => Int32.ofNat c.toNat).getD i []).getD j 0)) ∈ fl_0 := by decide +kernel
theorem tx_n : ∀ i, i < 28 → (st_tx.map String.length).getD i 0 < 2 ^ 31 := by decide +kernel
theorem tx_rr : ∀ q ∈ st_r, ∀ i, i < 28 → st_tx[i]? = some q.2.2 → (tm_ i = .string q.1 q.2.1 ∨ Cond.eq (tm_ i) (.string q.1 q.2.1) ∈ fl_0) := by decide +kernel
/-- the texts' cells -/
theorem tx_at {args : Array Value} {s : State} (hgv : (Jvm.Cond.and given_1 narrow_1).before args s = true) : ∃ adK adV : Nat → Nat, ∀ i, i < 28 → ((tm_ i).eval args s none [] s = some (.ref (adK i))) ∧ va_O "java/lang/String" (adK i) (fun q => s.heap.size ≤ q) s s.heap ∧ va_OF "java/lang/String" "coder" "B" (.int 0) (adK i) (fun q => s.heap.size ≤ q) s s.heap ∧ va_OF "java/lang/String" "value" "[B" (.ref (adV i)) (adK i) (fun q => s.heap.size ≤ q) s s.heap ∧
    va_T .byte (adV i) ((st_tx.map String.length).getD i 0) (fun j => .int (((st_tx.map fun s => s.toList.map fun c => Int32.ofNat c.toNat).getD i []).getD j 0)) (fun q => s.heap.size ≤ q) s s.heap := by
  have hs := flat_of_before _ hgv
  have hA : ∀ a : Nat, a < s.heap.size → ¬ s.heap.size ≤ a := fun a h => by omega
  have h0 : ∀ i : Nat, ∃ q : Nat × Nat, i < 28 → (tm_ i).eval args s none [] s = some (.ref q.1) ∧ va_O "java/lang/String" q.1 (fun q => s.heap.size ≤ q) s s.heap ∧ va_OF "java/lang/String" "coder" "B" (.int 0) q.1 (fun q => s.heap.size ≤ q) s s.heap ∧ va_OF "java/lang/String" "value" "[B" (.ref q.2) q.1 (fun q => s.heap.size ≤ q) s s.heap ∧ va_T .byte q.2 ((st_tx.map String.length).getD i 0) (fun j => .int (((st_tx.map fun s => s.toList.map fun c => Int32.ofNat c.toNat).getD i []).getD j 0)) (fun q => s.heap.size ≤ q) s s.heap := by
    intro i
    by_cases hi : i < 28
    · obtain ⟨a, c, cA, kA, q1, q2, q3, q4, q5, q6, -⟩ := Cond.exactly_spec (args := args) (first := s) (o := none) (s := s) (idx := []) (t := tm_ i) (cls := "java/lang/String") (hs _ (tx_ex i hi))
      obtain ⟨t, ht, hT⟩ := va_Tof (f := fun j => .int (((st_tx.map fun s => s.toList.map fun c => Int32.ofNat c.toNat).getD i []).getD j 0)) (A := fun q => s.heap.size ≤ q) (tx_n i hi) (hs _ (tx_ar i hi)) (va_eqt (hs _ (tx_le i hi))) (fun j hj => va_eqt (hs _ (tx_el i hi j hj))) hA
      exact ⟨(a, t), fun _ => ⟨q1, ⟨cA, q3, q5, by rw [q6]; exact q2, hA a (Array.getElem?_eq_some_iff.mp q3).1⟩, vk_OFof q1 (va_eqt (hs _ (tx_co i hi))) hA, vk_OFof q1 ht hA, hT⟩⟩
    · exact ⟨(0, 0), fun h => absurd h hi⟩
  obtain ⟨ad, had⟩ := Classical.axiomOfChoice h0
  exact ⟨fun i => (ad i).1, fun i => (ad i).2, fun i hi => had i hi⟩
theorem st_cl {A : Array Value} {s : State} (hw : ∀ w ∈ lw_all, w.before A s = true) : ∃ D : va_G, ∀ (c : Nat) (q : vw_C), tb_cl[c]? = some q → u_Kn s q.1 q.2.1 q.2.2 (D.1 c) (D.2 c) := by
  have h0 : ∀ c : Nat, ∃ z : ClassId × (Nat → Nat), ∀ q : vw_C, tb_cl[c]? = some q → u_Kn s q.1 q.2.1 q.2.2 z.1 z.2 := by
    intro c
    by_cases hc : c < 17
    · have hc2 : c = 0 ∨ c = 1 ∨ c = 2 ∨ c = 3 ∨ c = 4 ∨ c = 5 ∨ c = 6 ∨ c = 7 ∨ c = 8 ∨ c = 9 ∨ c = 10 ∨ c = 11 ∨ c = 12 ∨ c = 13 ∨ c = 14 ∨ c = 15 ∨ c = 16 := by omega
      rcases hc2 with rfl | rfl | rfl | rfl | rfl | rfl | rfl | rfl | rfl | rfl | rfl | rfl | rfl | rfl | rfl | rfl | rfl
      · obtain ⟨cC, iS, h⟩ := u_known (C := RX0) (T := TX0) (N := 30) hw in_X0 (hw _ q188)
        exact ⟨(cC, iS), fun q e => by cases e; exact h⟩
      · obtain ⟨cC, iS, h⟩ := u_known (C := RX1) (T := TX1) (N := 22) hw in_X1 (hw _ q196)
        exact ⟨(cC, iS), fun q e => by cases e; exact h⟩
      · obtain ⟨cC, iS, h⟩ := u_known (C := RX3) (T := TX3) (N := 77) hw in_X3 (hw _ q1336)
        exact ⟨(cC, iS), fun q e => by cases e; exact h⟩
      · obtain ⟨cC, iS, h⟩ := u_known (C := RX4) (T := TX4) (N := 8) hw in_X4 (hw _ q516)
        exact ⟨(cC, iS), fun q e => by cases e; exact h⟩
      · obtain ⟨cC, iS, h⟩ := u_known (C := RX2) (T := TX2) (N := 8) hw in_X2 (hw _ q306)
        exact ⟨(cC, iS), fun q e => by cases e; exact h⟩
      · obtain ⟨cC, iS, h⟩ := u_known (C := RX19) (T := TX19) (N := 3) hw in_X19 (hw _ q1313)
        exact ⟨(cC, iS), fun q e => by cases e; exact h⟩
      · obtain ⟨cC, iS, h⟩ := u_known (C := RX9) (T := TX9) (N := 2) hw in_X9 (hw _ q802)
        exact ⟨(cC, iS), fun q e => by cases e; exact h⟩
      · obtain ⟨cC, iS, h⟩ := u_known (C := RX10) (T := TX10) (N := 2) hw in_X10 (hw _ q823)
        exact ⟨(cC, iS), fun q e => by cases e; exact h⟩
      · obtain ⟨cC, iS, h⟩ := u_known (C := RX12) (T := TX12) (N := 1) hw in_X12 (hw _ q855)
        exact ⟨(cC, iS), fun q e => by cases e; exact h⟩
      · obtain ⟨cC, iS, h⟩ := u_known (C := RX13) (T := TX13) (N := 1) hw in_X13 (hw _ q868)
        exact ⟨(cC, iS), fun q e => by cases e; exact h⟩
      · obtain ⟨cC, iS, h⟩ := u_known (C := RX14) (T := TX14) (N := 3) hw in_X14 (hw _ q878)
        exact ⟨(cC, iS), fun q e => by cases e; exact h⟩
      · obtain ⟨cC, iS, h⟩ := u_known (C := RX16) (T := TX16) (N := 1) hw in_X16 (hw _ q907)
        exact ⟨(cC, iS), fun q e => by cases e; exact h⟩
      · obtain ⟨cC, iS, h⟩ := u_known (C := RX18) (T := TX18) (N := 3) hw in_X18 (hw _ q940)
        exact ⟨(cC, iS), fun q e => by cases e; exact h⟩
      · obtain ⟨cC, iS, h⟩ := u_known (C := RX17) (T := TX17) (N := 3) hw in_X17 (hw _ q924)
        exact ⟨(cC, iS), fun q e => by cases e; exact h⟩
      · obtain ⟨cC, iS, h⟩ := u_known (C := RX7) (T := TX7) (N := 1) hw in_X7 (hw _ q743)
        exact ⟨(cC, iS), fun q e => by cases e; exact h⟩
      · obtain ⟨cC, iS, h⟩ := u_known (C := RX6) (T := TX6) (N := 1) hw in_X6 (hw _ q728)
        exact ⟨(cC, iS), fun q e => by cases e; exact h⟩
      · obtain ⟨cC, iS, h⟩ := u_known (C := RX8) (T := TX8) (N := 3) hw in_X8 (hw _ q758)
        exact ⟨(cC, iS), fun q e => by cases e; exact h⟩
    · exact ⟨(0, fun _ => 0), fun q e => by
        rw [List.getElem?_eq_none (show tb_cl.length ≤ c from (by show 17 ≤ c; omega))] at e
        cases e⟩
  obtain ⟨z, hz⟩ := Classical.axiomOfChoice h0
  exact ⟨(fun c => (z c).1, fun c => (z c).2), hz⟩
theorem st_aP {A : Array Value} {s : State} {ty : FieldType} (h : (Cond.arrayClass ty).before A s = true) : ∃ cA, s.vm.findClass ("[" ++ ty.toString) = some cA ∧ ArrOfT s cA ty := by
  obtain ⟨c, k, comp, h1, h2, h3⟩ := Cond.arrayClass_spec h
  exact ⟨c, h1, fun n z => ⟨fun k e => (by cases e), k, h2, comp, h3⟩⟩
theorem st_aO {A : Array Value} {s : State} {n : String} (h : (Cond.arrayOver (.object n)).before A s = true) : ∃ cA, ArrOfT s cA (.object n) ∧ va_RA s cA (.object n) := by
  obtain ⟨comp, c, k, h1, -, h2, h3, h4⟩ := Cond.arrayOver_spec h
  exact ⟨c, fun m z => ⟨fun k e => (by cases e), k, h2, comp, h3⟩, k, comp, h2, h3, h1, h4⟩
theorem st_ar {A : Array Value} {s : State} (hw : ∀ w ∈ lw_tbl, w.before A s = true) : ∃ a : Nat → ClassId, ∀ t, 20 ≤ t → t < 28 → ArrOfT s (a t) (at_ t) ∧ va_RA s (a t) (at_ t) := by
  have h0 : ∀ t : Nat, ∃ cA : ClassId, 20 ≤ t → t < 28 → ArrOfT s cA (at_ t) ∧ va_RA s cA (at_ t) := by
    intro t
    by_cases ht : 20 ≤ t ∧ t < 28
    · have hc2 : t = 20 ∨ t = 21 ∨ t = 22 ∨ t = 23 ∨ t = 24 ∨ t = 25 ∨ t = 26 ∨ t = 27 := by omega
      rcases hc2 with rfl | rfl | rfl | rfl | rfl | rfl | rfl | rfl
      · obtain ⟨c, h1, h2⟩ := st_aP (hw _ (lw_all_tbl q304))
        exact ⟨c, fun _ _ => ⟨h2, h1⟩⟩
      · obtain ⟨c, h1, h2⟩ := st_aP (hw _ (lw_all_tbl q303))
        exact ⟨c, fun _ _ => ⟨h2, h1⟩⟩
      · obtain ⟨c, h1, h2⟩ := st_aP (hw _ (lw_all_tbl q378))
        exact ⟨c, fun _ _ => ⟨h2, h1⟩⟩
      · obtain ⟨c, h1, h2⟩ := st_aP (hw _ (lw_all_tbl q1572))
        exact ⟨c, fun _ _ => ⟨h2, h1⟩⟩
      · obtain ⟨c, h1⟩ := st_aO (hw _ q380)
        exact ⟨c, fun _ _ => h1⟩
      · obtain ⟨c, h1⟩ := st_aO (hw _ q397)
        exact ⟨c, fun _ _ => h1⟩
      · obtain ⟨c, h1⟩ := st_aO (hw _ q399)
        exact ⟨c, fun _ _ => h1⟩
      · obtain ⟨c, h1⟩ := st_aO (hw _ q808)
        exact ⟨c, fun _ _ => h1⟩
    · exact ⟨0, fun h1 h2 => absurd ⟨h1, h2⟩ ht⟩
  obtain ⟨a, ha⟩ := Classical.axiomOfChoice h0
  exact ⟨a, ha⟩
def ph_0 : ph_t := (fun _ => 99, fun _ => 0, fun _ _ => 0, fun _ _ => 0, fun _ _ => none, 64, 0)
def ph_9 : ph_t := (fun _ => 99, fun _ => 0, fun _ _ => 0, fun _ _ => 0, fun _ _ => none, 601088, 7293034)
def wo_v (j : Nat) : Int64 := wt_ j
theorem wo_el : ∀ j, j < 6 → Cond.eq (.elem (.static "TruthBridge" "WITHOUT" "[J") (.int (Int32.ofNat j))) (.long (wt_ j)) ∈ fl_0 := by decide +kernel
theorem wo_le : Cond.eq (.length (.static "TruthBridge" "WITHOUT" "[J")) (.int (Int32.ofNat 6)) ∈ fl_0 := by decide +kernel
theorem wo_ar : Cond.arrayOf (.static "TruthBridge" "WITHOUT" "[J") .long ∈ fl_0 := by decide +kernel
theorem zs_1 : Cond.isRef (.static "java/lang/Throwable" "UNASSIGNED_STACK" "[Ljava/lang/StackTraceElement;") ∈ fl_0 := by decide +kernel
theorem zs_2 : Cond.isRef (.static "java/lang/Throwable" "SUPPRESSED_SENTINEL" "Ljava/util/List;") ∈ fl_0 := by decide +kernel
theorem zs_3 : Cond.isRef (.static "jdk/internal/util/Preconditions" "SIOOBE_FORMATTER" "Ljava/util/function/BiFunction;") ∈ fl_0 := by decide +kernel
theorem zs_4 : Cond.eq (.static "java/lang/String" "COMPACT_STRINGS" "Z") (.int 1) ∈ fl_0 := by decide +kernel
def zl_l : List (String × String × String) := [("TruthBridge", "WITHOUT", "[J"), ("java/lang/Throwable", "UNASSIGNED_STACK", "[Ljava/lang/StackTraceElement;"), ("java/lang/Throwable", "SUPPRESSED_SENTINEL", "Ljava/util/List;"), ("java/lang/String", "COMPACT_STRINGS", "Z"), ("jdk/internal/util/Preconditions", "SIOOBE_FORMATTER", "Ljava/util/function/BiFunction;")]
theorem zl_w : ∀ q ∈ zl_l, Cond.laysStatic q.1 q.2.1 q.2.2 ∈ lw_tbl ∧ Cond.initialized q.1 ∈ lw_tbl := by decide +kernel
def ex_ (adK adV : Nat → Nat) (w : Nat) (u1 u2 u3 : Option Nat) (b : Nat) : Nat → Option Nat := fun i => if i < 28 then some (adK i) else if i = 28 then some w else if i = 29 then u1 else if i = 30 then u2 else if i = 31 then u3 else if i < 60 then some (adV (i - 32)) else some b
theorem zq_ref {C n d : String} {A : Nat → Prop} {s : State} (h : va_Zq C n d A s s.heap) : ∃ u : Option Nat, va_Z C n d (va_rf u) A s s.heap := by
  rcases h with h | ⟨t, h⟩
  · exact ⟨none, h⟩
  · exact ⟨some t, h⟩
/-- the world -/
theorem st_G {p : Program} {s : State} {m : MethodId} {meth : Method} {c : Code} (l : Launch) {b L : Nat} {xs : Nat → Int32} (C0 : lw_At p s m meth c b L xs) : ∃ G : gv_t, gw_ G ∧ gs_ G L xs ∧ gv_s G = s ∧ gv_l G = l ∧ gv_x G 60 = some b := by
  obtain ⟨-, -, -, -, -, hts, hX, hb, -, hgv⟩ := C0
  have hs := flat_of_before _ hgv
  have hA : ∀ a : Nat, a < s.heap.size → ¬ s.heap.size ≤ a := fun a h => by omega
  obtain ⟨adK, adV, hT⟩ := tx_at hgv
  obtain ⟨D, hD⟩ := st_cl (fun w hw => hts w (lw_all_tbl hw))
  obtain ⟨a, ha⟩ := st_ar hts
  have hz : ∀ q ∈ zl_l, (Cond.laysStatic q.1 q.2.1 q.2.2).before #[Value.ref b] s = true ∧ (Cond.initialized q.1).before #[Value.ref b] s = true := fun q hq => ⟨hts _ (zl_w q hq).1, hts _ (zl_w q hq).2⟩
  have z0 := hz _ (show ("TruthBridge", "WITHOUT", "[J") ∈ zl_l by decide)
  have z1 := hz _ (show ("java/lang/Throwable", "UNASSIGNED_STACK", "[Ljava/lang/StackTraceElement;") ∈ zl_l by decide)
  have z2 := hz _ (show ("java/lang/Throwable", "SUPPRESSED_SENTINEL", "Ljava/util/List;") ∈ zl_l by decide)
  have z3 := hz _ (show ("java/lang/String", "COMPACT_STRINGS", "Z") ∈ zl_l by decide)
  have z4 := hz _ (show ("jdk/internal/util/Preconditions", "SIOOBE_FORMATTER", "Ljava/util/function/BiFunction;") ∈ zl_l by decide)
  obtain ⟨w, hw, hW⟩ := va_Tof (f := fun j => .long (wt_ j)) (A := fun q => s.heap.size ≤ q) (by decide) (hs _ wo_ar) (va_eqt (hs _ wo_le)) (fun j hj => va_eqtl (hs _ (wo_el j hj))) hA
  obtain ⟨u1, h1⟩ := zq_ref (va_Zqof (A := fun q => s.heap.size ≤ q) z1.1 z1.2 (hs _ zs_1) hA)
  obtain ⟨u2, h2⟩ := zq_ref (va_Zqof (A := fun q => s.heap.size ≤ q) z2.1 z2.2 (hs _ zs_2) hA)
  obtain ⟨u3, h3⟩ := zq_ref (va_Zqof (A := fun q => s.heap.size ≤ q) z4.1 z4.2 (hs _ zs_3) hA)
  refine ⟨(s, ex_ adK adV w u1 u2 u3 b, D, a, tb_cl, tb_ft, l), ⟨rfl, rfl, ⟨hD, ha, _, hts⟩, ⟨?_, ?_, ?_, ?_, ?_, ?_⟩, ?_, adK, adV, fun i hi => ⟨(hT i hi).2, (show ex_ adK adV w u1 u2 u3 b i = _ from if_pos hi), ?_⟩⟩, ⟨b, rfl, hb, hX⟩, rfl, rfl, rfl⟩
  · exact va_Zof z0.1 z0.2 hw hA
  · exact h1
  · exact h2
  · exact va_Zof z3.1 z3.2 (va_eqi (hs _ zs_4)) hA
  · exact h3
  · exact ⟨w, rfl, hW⟩
  · intro own k i tx hl hi
    have hq : (own, k, tx) ∈ st_r := List.mem_filterMap.mpr ⟨_, hl, rfl⟩
    have hi28 : i < 28 := (List.getElem?_eq_some_iff.mp hi).1
    refine ⟨adK i, (show ex_ adK adV w u1 u2 u3 b i = _ from if_pos hi28), ?_⟩
    have e := (hT i hi28).1
    rcases tx_rr _ hq i hi28 hi with q | q
    · rw [q] at e
      exact vk_R.of (hts _ hl) e
    · exact vk_R.of (hts _ hl) (va_eqR (hs _ q) e)
  · show ex_ adK adV w u1 u2 u3 b (32 + i) = _
    unfold ex_
    rw [if_neg (by omega), if_neg (by omega), if_neg (by omega), if_neg (by omega), if_neg (by omega), if_pos (by omega), Nat.add_sub_cancel_left]
theorem ph_0P {G : gv_t} : PR G ph_0 (gv_s G).heap := by
  refine ⟨rfl, fun _ _ => rfl, fun k h => absurd rfl h, fun k _ => ⟨fun h => ?_, fun _ h => ?_⟩⟩
  · exact absurd (show (99 : Nat) < 20 from h) (by decide)
  · exact absurd (show (99 : Nat) < 28 from h) (by decide)
