/-! JDK: printed by gen3.py out of the bytecode -/
noncomputable def fJ9_bitCount (v0 : Int32) (h : ph_t) : Option (Int32 × ph_t) :=
  nm_ (v0 - ((iu_ v0 1) &&& 1431655765)) fun v0_9_1 => nm_ ((v0_9_1 &&& 858993459) + ((iu_ v0_9_1 2) &&& 858993459)) fun v0_23_2 => nm_ ((v0_23_2 + (iu_ v0_23_2 4)) &&& 252645135) fun v0_33_3 => nm_ (v0_33_3 + (iu_ v0_33_3 8)) fun v0_40_4 => nm_ (v0_40_4 + (iu_ v0_40_4 16)) fun v0_47_5 => some ((v0_47_5 &&& 63), h)
theorem tJ9_bitCount_E {G : gv_t} {Z : zx_t} {fr lo : Nat} (w : gw_ G) (C : Cz G Z cJ9_bitCount RJ9 1 (some .int)) (Rm : Rz Z fr lo) {oE : Outcome} (E : qe_ G Z oE) (hfr : 1 ≤ fr) (hlo : 12 ≤ lo) (v0 : Int32) (h : ph_t) : Tr G Z (gd_ ov_I oE (zx_1 Z)) 0 [(0, .inl v0)] [] h (fJ9_bitCount v0 h) := by
  unfold fJ9_bitCount
  refine tr_iload_n C 1 rfl dJ9_bitCount_0 0 rfl 0 rfl ?_
  refine tr_iload_n C 2 rfl dJ9_bitCount_1 0 rfl 0 rfl ?_
  refine tr_iconst C 3 rfl dJ9_bitCount_2 (v := 1) (by decide) ?_
  refine tr_iushr C 4 rfl dJ9_bitCount_3 ?_
  refine tr_ldcw C 7 rfl dJ9_bitCount_4 (v := 1431655765) q1187 ?_
  refine tr_iand C 8 rfl dJ9_bitCount_7 ?_
  refine tr_isub C 9 rfl dJ9_bitCount_8 ?_
  refine tr_nmI (fun v0_9_1 => ?_)
  refine tr_istore_n (L' := [(0, .inl v0_9_1)]) C 10 rfl dJ9_bitCount_9 0 rfl (by decide) rfl ?_
  refine tr_iload_n C 11 rfl dJ9_bitCount_10 0 rfl 0 rfl ?_
  refine tr_ldcw C 14 rfl dJ9_bitCount_11 (v := 858993459) q1188 ?_
  refine tr_iand C 15 rfl dJ9_bitCount_14 ?_
  refine tr_iload_n C 16 rfl dJ9_bitCount_15 0 rfl 0 rfl ?_
  refine tr_iconst C 17 rfl dJ9_bitCount_16 (v := 2) (by decide) ?_
  refine tr_iushr C 18 rfl dJ9_bitCount_17 ?_
  refine tr_ldcw C 21 rfl dJ9_bitCount_18 (v := 858993459) q1188 ?_
  refine tr_iand C 22 rfl dJ9_bitCount_21 ?_
  refine tr_iadd C 23 rfl dJ9_bitCount_22 ?_
  refine tr_nmI (fun v0_23_2 => ?_)
  refine tr_istore_n (L' := [(0, .inl v0_23_2)]) C 24 rfl dJ9_bitCount_23 0 rfl (by decide) rfl ?_
  refine tr_iload_n C 25 rfl dJ9_bitCount_24 0 rfl 0 rfl ?_
  refine tr_iload_n C 26 rfl dJ9_bitCount_25 0 rfl 0 rfl ?_
  refine tr_iconst C 27 rfl dJ9_bitCount_26 (v := 4) (by decide) ?_
  refine tr_iushr C 28 rfl dJ9_bitCount_27 ?_
  refine tr_iadd C 29 rfl dJ9_bitCount_28 ?_
  refine tr_ldcw C 32 rfl dJ9_bitCount_29 (v := 252645135) q1189 ?_
  refine tr_iand C 33 rfl dJ9_bitCount_32 ?_
  refine tr_nmI (fun v0_33_3 => ?_)
  refine tr_istore_n (L' := [(0, .inl v0_33_3)]) C 34 rfl dJ9_bitCount_33 0 rfl (by decide) rfl ?_
  refine tr_iload_n C 35 rfl dJ9_bitCount_34 0 rfl 0 rfl ?_
  refine tr_iload_n C 36 rfl dJ9_bitCount_35 0 rfl 0 rfl ?_
  refine tr_bipush C 38 rfl dJ9_bitCount_36 (v := 8) (by decide) ?_
  refine tr_iushr C 39 rfl dJ9_bitCount_38 ?_
  refine tr_iadd C 40 rfl dJ9_bitCount_39 ?_
  refine tr_nmI (fun v0_40_4 => ?_)
  refine tr_istore_n (L' := [(0, .inl v0_40_4)]) C 41 rfl dJ9_bitCount_40 0 rfl (by decide) rfl ?_
  refine tr_iload_n C 42 rfl dJ9_bitCount_41 0 rfl 0 rfl ?_
  refine tr_iload_n C 43 rfl dJ9_bitCount_42 0 rfl 0 rfl ?_
  refine tr_bipush C 45 rfl dJ9_bitCount_43 (v := 16) (by decide) ?_
  refine tr_iushr C 46 rfl dJ9_bitCount_45 ?_
  refine tr_iadd C 47 rfl dJ9_bitCount_46 ?_
  refine tr_nmI (fun v0_47_5 => ?_)
  refine tr_istore_n (L' := [(0, .inl v0_47_5)]) C 48 rfl dJ9_bitCount_47 0 rfl (by decide) rfl ?_
  refine tr_iload_n C 49 rfl dJ9_bitCount_48 0 rfl 0 rfl ?_
  refine tr_bipush C 51 rfl dJ9_bitCount_49 (v := 63) (by decide) ?_
  refine tr_iand C 52 rfl dJ9_bitCount_51 ?_
  exact tr_iret C E dJ9_bitCount_52
theorem mJ9_bitCount {G : gv_t} {fr lo : Nat} (w : gw_ G) (hfr : 1 ≤ fr) (hlo : 12 ≤ lo) (v0 : Int32) (h : ph_t) (r : Int32 × ph_t) (hf : fJ9_bitCount v0 h = some r) : Mt G yJ9_bitCount cJ9_bitCount 1 (some .int) fr lo [.inl v0] h r.2 (.returned (ov_I r.1)) := by
  refine mt_of (cx_0 w) (by decide +kernel) rfl (Nat.le_of_ble_eq_true rfl) (fun Z hZ C Rm E hin => ?_)
  subst hZ
  exact tJ9_bitCount_E w C Rm E hfr hlo v0 h r hf ⟨rfl, rfl⟩
noncomputable def fJ8_bitCount (v0 : Int64) (h : ph_t) : Option (Int32 × ph_t) :=
  nm_ (v0 - ((lu_ v0 1) &&& 6148914691236517205)) fun v0_9_1 => nm_ ((v0_9_1 &&& 3689348814741910323) + ((lu_ v0_9_1 2) &&& 3689348814741910323)) fun v0_23_2 => nm_ ((v0_23_2 + (lu_ v0_23_2 4)) &&& 1085102592571150095) fun v0_33_3 => nm_ (v0_33_3 + (lu_ v0_33_3 8)) fun v0_40_4 => nm_ (v0_40_4 + (lu_ v0_40_4 16)) fun v0_47_5 => nm_ (v0_47_5 + (lu_ v0_47_5 32)) fun v0_54_6 => some ((v0_54_6.toInt32 &&& 127), h)
theorem tJ8_bitCount_E {G : gv_t} {Z : zx_t} {fr lo : Nat} (w : gw_ G) (C : Cz G Z cJ8_bitCount RJ8 2 (some .int)) (Rm : Rz Z fr lo) {oE : Outcome} (E : qe_ G Z oE) (hfr : 1 ≤ fr) (hlo : 12 ≤ lo) (v0 : Int64) (h : ph_t) : Tr G Z (gd_ ov_I oE (zx_1 Z)) 0 [(0, .inr (.inl v0))] [] h (fJ8_bitCount v0 h) := by
  unfold fJ8_bitCount
  refine tr_lload_n C 1 rfl dJ8_bitCount_0 0 rfl 0 rfl ?_
  refine tr_lload_n C 2 rfl dJ8_bitCount_1 0 rfl 0 rfl ?_
  refine tr_iconst C 3 rfl dJ8_bitCount_2 (v := 1) (by decide) ?_
  refine tr_lushr C 4 rfl dJ8_bitCount_3 ?_
  refine tr_ldc2 C 7 rfl dJ8_bitCount_4 (v := 6148914691236517205) q970 ?_
  refine tr_land C 8 rfl dJ8_bitCount_7 ?_
  refine tr_lsub C 9 rfl dJ8_bitCount_8 ?_
  refine tr_nmL (fun v0_9_1 => ?_)
  refine tr_lstore_n (L' := [(0, .inr (.inl v0_9_1))]) C 10 rfl dJ8_bitCount_9 0 rfl (by decide) rfl ?_
  refine tr_lload_n C 11 rfl dJ8_bitCount_10 0 rfl 0 rfl ?_
  refine tr_ldc2 C 14 rfl dJ8_bitCount_11 (v := 3689348814741910323) q971 ?_
  refine tr_land C 15 rfl dJ8_bitCount_14 ?_
  refine tr_lload_n C 16 rfl dJ8_bitCount_15 0 rfl 0 rfl ?_
  refine tr_iconst C 17 rfl dJ8_bitCount_16 (v := 2) (by decide) ?_
  refine tr_lushr C 18 rfl dJ8_bitCount_17 ?_
  refine tr_ldc2 C 21 rfl dJ8_bitCount_18 (v := 3689348814741910323) q971 ?_
  refine tr_land C 22 rfl dJ8_bitCount_21 ?_
  refine tr_ladd C 23 rfl dJ8_bitCount_22 ?_
  refine tr_nmL (fun v0_23_2 => ?_)
  refine tr_lstore_n (L' := [(0, .inr (.inl v0_23_2))]) C 24 rfl dJ8_bitCount_23 0 rfl (by decide) rfl ?_
  refine tr_lload_n C 25 rfl dJ8_bitCount_24 0 rfl 0 rfl ?_
  refine tr_lload_n C 26 rfl dJ8_bitCount_25 0 rfl 0 rfl ?_
  refine tr_iconst C 27 rfl dJ8_bitCount_26 (v := 4) (by decide) ?_
  refine tr_lushr C 28 rfl dJ8_bitCount_27 ?_
  refine tr_ladd C 29 rfl dJ8_bitCount_28 ?_
  refine tr_ldc2 C 32 rfl dJ8_bitCount_29 (v := 1085102592571150095) q972 ?_
  refine tr_land C 33 rfl dJ8_bitCount_32 ?_
  refine tr_nmL (fun v0_33_3 => ?_)
  refine tr_lstore_n (L' := [(0, .inr (.inl v0_33_3))]) C 34 rfl dJ8_bitCount_33 0 rfl (by decide) rfl ?_
  refine tr_lload_n C 35 rfl dJ8_bitCount_34 0 rfl 0 rfl ?_
  refine tr_lload_n C 36 rfl dJ8_bitCount_35 0 rfl 0 rfl ?_
  refine tr_bipush C 38 rfl dJ8_bitCount_36 (v := 8) (by decide) ?_
  refine tr_lushr C 39 rfl dJ8_bitCount_38 ?_
  refine tr_ladd C 40 rfl dJ8_bitCount_39 ?_
  refine tr_nmL (fun v0_40_4 => ?_)
  refine tr_lstore_n (L' := [(0, .inr (.inl v0_40_4))]) C 41 rfl dJ8_bitCount_40 0 rfl (by decide) rfl ?_
  refine tr_lload_n C 42 rfl dJ8_bitCount_41 0 rfl 0 rfl ?_
  refine tr_lload_n C 43 rfl dJ8_bitCount_42 0 rfl 0 rfl ?_
  refine tr_bipush C 45 rfl dJ8_bitCount_43 (v := 16) (by decide) ?_
  refine tr_lushr C 46 rfl dJ8_bitCount_45 ?_
  refine tr_ladd C 47 rfl dJ8_bitCount_46 ?_
  refine tr_nmL (fun v0_47_5 => ?_)
  refine tr_lstore_n (L' := [(0, .inr (.inl v0_47_5))]) C 48 rfl dJ8_bitCount_47 0 rfl (by decide) rfl ?_
  refine tr_lload_n C 49 rfl dJ8_bitCount_48 0 rfl 0 rfl ?_
  refine tr_lload_n C 50 rfl dJ8_bitCount_49 0 rfl 0 rfl ?_
  refine tr_bipush C 52 rfl dJ8_bitCount_50 (v := 32) (by decide) ?_
  refine tr_lushr C 53 rfl dJ8_bitCount_52 ?_
  refine tr_ladd C 54 rfl dJ8_bitCount_53 ?_
  refine tr_nmL (fun v0_54_6 => ?_)
  refine tr_lstore_n (L' := [(0, .inr (.inl v0_54_6))]) C 55 rfl dJ8_bitCount_54 0 rfl (by decide) rfl ?_
  refine tr_lload_n C 56 rfl dJ8_bitCount_55 0 rfl 0 rfl ?_
  refine tr_l2i C 57 rfl dJ8_bitCount_56 ?_
  refine tr_bipush C 59 rfl dJ8_bitCount_57 (v := 127) (by decide) ?_
  refine tr_iand C 60 rfl dJ8_bitCount_59 ?_
  exact tr_iret C E dJ8_bitCount_60
theorem mJ8_bitCount {G : gv_t} {fr lo : Nat} (w : gw_ G) (hfr : 1 ≤ fr) (hlo : 12 ≤ lo) (v0 : Int64) (h : ph_t) (r : Int32 × ph_t) (hf : fJ8_bitCount v0 h = some r) : Mt G yJ8_bitCount cJ8_bitCount 2 (some .int) fr lo [.inr (.inl v0)] h r.2 (.returned (ov_I r.1)) := by
  refine mt_of (cx_0 w) (by decide +kernel) rfl (Nat.le_of_ble_eq_true rfl) (fun Z hZ C Rm E hin => ?_)
  subst hZ
  exact tJ8_bitCount_E w C Rm E hfr hlo v0 h r hf ⟨rfl, rfl⟩
noncomputable def fJ3_isLatin1 (o : Nat) (h : ph_t) : Option (Int32 × ph_t) :=
  if (1 : Int32) = 0 then (rz_ 0 h) else (sk_ (some o)).bind fun x7_1 => if ¬ x7_1 = 0 then (rz_ 0 h) else rz_ 1 h
theorem tJ3_isLatin1_E {G : gv_t} {Z : zx_t} {fr lo : Nat} (w : gw_ G) (C : Cz G Z cJ3_isLatin1 RJ3 1 (some .boolean)) (Rm : Rz Z fr lo) {oE : Outcome} (E : qe_ G Z oE) (hfr : 1 ≤ fr) (hlo : 12 ≤ lo) (o : Nat) (h : ph_t) : Tr G Z (gd_ ov_I oE (zx_1 Z)) 0 [(0, .inr (.inr (some o)))] [] h (fJ3_isLatin1 o h) := by
  unfold fJ3_isLatin1
  refine tr_getsC C w 3 rfl dJ3_isLatin1_0 q585 ?_
  refine tr_if_eq C 17 6 rfl dJ3_isLatin1_3 (by decide) ?_ ?_
  · refine tr_iconst C 18 rfl dJ3_isLatin1_17 (v := 0) (by decide) ?_
    exact tr_zret C E dJ3_isLatin1_18
  · refine tr_aload_n C 7 rfl dJ3_isLatin1_6 0 rfl 0 rfl ?_
    refine tr_scod C w 10 rfl dJ3_isLatin1_7 q2145 (fun x7_1 => ?_)
    refine tr_if_ne C 17 13 rfl dJ3_isLatin1_10 (by decide) ?_ ?_
    · refine tr_iconst C 18 rfl dJ3_isLatin1_17 (v := 0) (by decide) ?_
      exact tr_zret C E dJ3_isLatin1_18
    · refine tr_iconst C 14 rfl dJ3_isLatin1_13 (v := 1) (by decide) ?_
      refine tr_goto C 18 dJ3_isLatin1_14 (by decide) ?_
      exact tr_zret C E dJ3_isLatin1_18
theorem mJ3_isLatin1 {G : gv_t} {fr lo : Nat} (w : gw_ G) (hfr : 1 ≤ fr) (hlo : 12 ≤ lo) (o : Nat) (h : ph_t) (r : Int32 × ph_t) (hf : fJ3_isLatin1 o h = some r) : Mt G yJ3_isLatin1 cJ3_isLatin1 1 (some .boolean) fr lo [.inr (.inr (some o))] h r.2 (.returned (ov_I r.1)) := by
  refine mt_of (cx_0 w) (by decide +kernel) rfl (Nat.le_of_ble_eq_true rfl) (fun Z hZ C Rm E hin => ?_)
  subst hZ
  exact tJ3_isLatin1_E w C Rm E hfr hlo o h r hf ⟨rfl, rfl⟩
noncomputable def fJ5_checkIndex_L9 (v0 : Int32) (v1 : Int32) (v2 : Option Nat) (h : ph_t) : Option (Int32 × ph_t) :=
  none
theorem tJ5_checkIndex_L9 {G : gv_t} {Z : zx_t} {fr lo : Nat} (w : gw_ G) (C : Cz G Z cJ5_checkIndex RJ5 3 (some .int)) (Rm : Rz Z fr lo) {oE : Outcome} (E : qe_ G Z oE) (hfr : 1 ≤ fr) (hlo : 12 ≤ lo) (v0 : Int32) (v1 : Int32) (v2 : Option Nat) (h : ph_t) : Tr G Z (gd_ ov_I oE (zx_1 Z)) 9 [(0, .inl v0), (1, .inl v1), (2, .inr (.inr v2))] [] h (fJ5_checkIndex_L9 v0 v1 v2 h) := by
  unfold fJ5_checkIndex_L9
  refine tr_aload_n C 10 rfl dJ5_checkIndex_9 2 rfl 2 rfl ?_
  refine tr_iload_n C 11 rfl dJ5_checkIndex_10 0 rfl 0 rfl ?_
  refine tr_iload_n C 12 rfl dJ5_checkIndex_11 1 rfl 1 rfl ?_
  exact tr_none
noncomputable def fJ5_checkIndex (v0 : Int32) (v1 : Int32) (v2 : Option Nat) (h : ph_t) : Option (Int32 × ph_t) :=
  if v0 < 0 then (fJ5_checkIndex_L9 v0 v1 v2 h) else if v0 < v1 then (some (v0, h)) else fJ5_checkIndex_L9 v0 v1 v2 h
theorem tJ5_checkIndex_E {G : gv_t} {Z : zx_t} {fr lo : Nat} (w : gw_ G) (C : Cz G Z cJ5_checkIndex RJ5 3 (some .int)) (Rm : Rz Z fr lo) {oE : Outcome} (E : qe_ G Z oE) (hfr : 1 ≤ fr) (hlo : 12 ≤ lo) (v0 : Int32) (v1 : Int32) (v2 : Option Nat) (h : ph_t) : Tr G Z (gd_ ov_I oE (zx_1 Z)) 0 [(0, .inl v0), (1, .inl v1), (2, .inr (.inr v2))] [] h (fJ5_checkIndex v0 v1 v2 h) := by
  unfold fJ5_checkIndex
  refine tr_iload_n C 1 rfl dJ5_checkIndex_0 0 rfl 0 rfl ?_
  refine tr_if_lt C 9 4 rfl dJ5_checkIndex_1 (by decide) ?_ ?_
  · exact tJ5_checkIndex_L9 w C Rm E hfr hlo v0 v1 v2 h
  · refine tr_iload_n C 5 rfl dJ5_checkIndex_4 0 rfl 0 rfl ?_
    refine tr_iload_n C 6 rfl dJ5_checkIndex_5 1 rfl 1 rfl ?_
    refine tr_icmp_lt C 16 9 rfl dJ5_checkIndex_6 (by decide) ?_ ?_
    · refine tr_iload_n C 17 rfl dJ5_checkIndex_16 0 rfl 0 rfl ?_
      exact tr_iret C E dJ5_checkIndex_17
    · exact tJ5_checkIndex_L9 w C Rm E hfr hlo v0 v1 v2 h
theorem mJ5_checkIndex {G : gv_t} {fr lo : Nat} (w : gw_ G) (hfr : 1 ≤ fr) (hlo : 12 ≤ lo) (v0 : Int32) (v1 : Int32) (v2 : Option Nat) (h : ph_t) (r : Int32 × ph_t) (hf : fJ5_checkIndex v0 v1 v2 h = some r) : Mt G yJ5_checkIndex cJ5_checkIndex 3 (some .int) fr lo [.inl v0, .inl v1, .inr (.inr v2)] h r.2 (.returned (ov_I r.1)) := by
  refine mt_of (cx_0 w) (by decide +kernel) rfl (Nat.le_of_ble_eq_true rfl) (fun Z hZ C Rm E hin => ?_)
  subst hZ
  exact tJ5_checkIndex_E w C Rm E hfr hlo v0 v1 v2 h r hf ⟨rfl, rfl⟩
noncomputable def fJ3_checkIndex (v0 : Int32) (v1 : Int32) (h : ph_t) : Option (Unit × ph_t) :=
  (fJ5_checkIndex v0 v1 (some 31) h).bind fun r5_1 => some ((), r5_1.2)
theorem tJ3_checkIndex_E {G : gv_t} {Z : zx_t} {fr lo : Nat} (w : gw_ G) (C : Cz G Z cJ3_checkIndex RJ3 2 none) (Rm : Rz Z fr lo) {oE : Outcome} (E : qe_ G Z oE) (hfr : 2 ≤ fr) (hlo : 34 ≤ lo) (v0 : Int32) (v1 : Int32) (h : ph_t) : Tr G Z (gd_ ov_V oE (zx_1 Z)) 0 [(0, .inl v0), (1, .inl v1)] [] h (fJ3_checkIndex v0 v1 h) := by
  unfold fJ3_checkIndex
  refine tr_iload_n C 1 rfl dJ3_checkIndex_0 0 rfl 0 rfl ?_
  refine tr_iload_n C 2 rfl dJ3_checkIndex_1 1 rfl 1 rfl ?_
  refine tr_gets31 C w 5 rfl dJ3_checkIndex_2 q601 ?_
  refine tr_callSI (n := 3) (As := [.inl v0, .inl v1, .inr (.inr (some 31))]) (rest := []) (fr2 := 1) (lo2 := 12) C Rm 8 rfl dJ3_checkIndex_5 (lw_S q603 q604 q167 q605) (by decide +kernel) rfl ⟨Nat.le_trans (Nat.le_of_ble_eq_true rfl) hfr, Nat.le_trans (Nat.le_of_ble_eq_true rfl) hlo⟩ rfl (Nat.le_of_ble_eq_true rfl) (fun r hr => mJ5_checkIndex w (Nat.le_refl 1) (Nat.le_refl 12) v0 v1 (some 31) h r hr) (fun r5_1 => ?_)
  refine tr_pop C 9 rfl dJ3_checkIndex_8 rfl ?_
  exact tr_vret C E dJ3_checkIndex_9
theorem mJ3_checkIndex {G : gv_t} {fr lo : Nat} (w : gw_ G) (hfr : 2 ≤ fr) (hlo : 34 ≤ lo) (v0 : Int32) (v1 : Int32) (h : ph_t) (r : Unit × ph_t) (hf : fJ3_checkIndex v0 v1 h = some r) : Mt G yJ3_checkIndex cJ3_checkIndex 2 none fr lo [.inl v0, .inl v1] h r.2 (.returned (ov_V r.1)) := by
  refine mt_of (cx_0 w) (by decide +kernel) rfl (Nat.le_of_ble_eq_true rfl) (fun Z hZ C Rm E hin => ?_)
  subst hZ
  exact tJ3_checkIndex_E w C Rm E hfr hlo v0 v1 h r hf ⟨rfl, rfl⟩
noncomputable def fJ4_charAt (v0 : Option Nat) (v1 : Int32) (h : ph_t) : Option (Int32 × ph_t) :=
  (nS_ v0).bind fun x2_1 => (fJ3_checkIndex v1 x2_1 h).bind fun r3_2 => (xS_ v0 v1).bind fun x8_3 => rt_ .char (ic_ (x8_3 &&& 255)) r3_2.2
theorem tJ4_charAt_E {G : gv_t} {Z : zx_t} {fr lo : Nat} (w : gw_ G) (C : Cz G Z cJ4_charAt RJ4 2 (some .char)) (Rm : Rz Z fr lo) {oE : Outcome} (E : qe_ G Z oE) (hfr : 3 ≤ fr) (hlo : 55 ≤ lo) (v0 : Option Nat) (v1 : Int32) (h : ph_t) : Tr G Z (gd_ ov_I oE (zx_1 Z)) 0 [(0, .inr (.inr v0)), (1, .inl v1)] [] h (fJ4_charAt v0 v1 h) := by
  unfold fJ4_charAt
  refine tr_iload_n C 1 rfl dJ4_charAt_0 1 rfl 1 rfl ?_
  refine tr_aload_n C 2 rfl dJ4_charAt_1 0 rfl 0 rfl ?_
  refine tr_alenS C w 3 rfl dJ4_charAt_2 (fun x2_1 => ?_)
  refine tr_callSV (n := 2) (As := [.inl v1, .inl x2_1]) (rest := []) (fr2 := 2) (lo2 := 34) C Rm 6 rfl dJ4_charAt_3 (lw_S q598 q599 q165 q600) (by decide +kernel) rfl ⟨Nat.le_trans (Nat.le_of_ble_eq_true rfl) hfr, Nat.le_trans (Nat.le_of_ble_eq_true rfl) hlo⟩ rfl (Nat.le_of_ble_eq_true rfl) (fun r hr => mJ3_checkIndex w (Nat.le_refl 2) (Nat.le_refl 34) v1 x2_1 h r hr) (fun r3_2 => ?_)
  refine tr_aload_n C 7 rfl dJ4_charAt_6 0 rfl 0 rfl ?_
  refine tr_iload_n C 8 rfl dJ4_charAt_7 1 rfl 1 rfl ?_
  refine tr_baldS C w 9 rfl dJ4_charAt_8 (fun x8_3 => ?_)
  refine tr_sipush C 12 rfl dJ4_charAt_9 (v := 255) (by decide) ?_
  refine tr_iand C 13 rfl dJ4_charAt_12 ?_
  refine tr_i2c C 14 rfl dJ4_charAt_13 ?_
  exact tr_rret C E dJ4_charAt_14
theorem mJ4_charAt {G : gv_t} {fr lo : Nat} (w : gw_ G) (hfr : 3 ≤ fr) (hlo : 55 ≤ lo) (v0 : Option Nat) (v1 : Int32) (h : ph_t) (r : Int32 × ph_t) (hf : fJ4_charAt v0 v1 h = some r) : Mt G yJ4_charAt cJ4_charAt 2 (some .char) fr lo [.inr (.inr v0), .inl v1] h r.2 (.returned (ov_I r.1)) := by
  refine mt_of (cx_0 w) (by decide +kernel) rfl (Nat.le_of_ble_eq_true rfl) (fun Z hZ C Rm E hin => ?_)
  subst hZ
  exact tJ4_charAt_E w C Rm E hfr hlo v0 v1 h r hf ⟨rfl, rfl⟩
noncomputable def fJ3_charAt (o : Nat) (v1 : Int32) (h : ph_t) : Option (Int32 × ph_t) :=
  (ds_ (some o)).bind fun a1_2 => (fJ3_isLatin1 a1_2 h).bind fun r1_1 => if r1_1.1 = 0 then ((sv_ (some o)).bind fun x17_3 => none) else (sv_ (some o)).bind fun x8_4 => (fJ4_charAt x8_4 v1 r1_1.2).bind fun r12_5 => rt_ .char r12_5.1 r12_5.2
theorem tJ3_charAt_E {G : gv_t} {Z : zx_t} {fr lo : Nat} (w : gw_ G) (C : Cz G Z cJ3_charAt RJ3 2 (some .char)) (Rm : Rz Z fr lo) {oE : Outcome} (E : qe_ G Z oE) (hfr : 4 ≤ fr) (hlo : 76 ≤ lo) (o : Nat) (v1 : Int32) (h : ph_t) : Tr G Z (gd_ ov_I oE (zx_1 Z)) 0 [(0, .inr (.inr (some o))), (1, .inl v1)] [] h (fJ3_charAt o v1 h) := by
  unfold fJ3_charAt
  refine tr_aload_n C 1 rfl dJ3_charAt_0 0 rfl 0 rfl ?_
  refine tr_callTI (f := fun a => fJ3_isLatin1 a h) (x := (some o)) (n := 0) (As := []) (rest := []) (fr2 := 1) (lo2 := 12) C w Rm 4 rfl dJ3_charAt_1 (lw_V q591 q592 q593 q165 q594) (by decide +kernel) rfl ⟨Nat.le_trans (Nat.le_of_ble_eq_true rfl) hfr, Nat.le_trans (Nat.le_of_ble_eq_true rfl) hlo⟩ rfl (Nat.le_of_ble_eq_true rfl) (fun a r hr => mJ3_isLatin1 w (Nat.le_refl 1) (Nat.le_refl 12) a h r hr) (fun r1_1 => ?_)
  refine tr_if_eq C 16 7 rfl dJ3_charAt_4 (by decide) ?_ ?_
  · refine tr_aload_n C 17 rfl dJ3_charAt_16 0 rfl 0 rfl ?_
    refine tr_sval C w 20 rfl dJ3_charAt_17 q2144 (fun x17_3 => ?_)
    refine tr_iload_n C 21 rfl dJ3_charAt_20 1 rfl 1 rfl ?_
    exact tr_none
  · refine tr_aload_n C 8 rfl dJ3_charAt_7 0 rfl 0 rfl ?_
    refine tr_sval C w 11 rfl dJ3_charAt_8 q2144 (fun x8_4 => ?_)
    refine tr_iload_n C 12 rfl dJ3_charAt_11 1 rfl 1 rfl ?_
    refine tr_callSI (n := 2) (As := [.inr (.inr x8_4), .inl v1]) (rest := []) (fr2 := 3) (lo2 := 55) C Rm 15 rfl dJ3_charAt_12 (lw_S q595 q596 q166 q597) (by decide +kernel) rfl ⟨Nat.le_trans (Nat.le_of_ble_eq_true rfl) hfr, Nat.le_trans (Nat.le_of_ble_eq_true rfl) hlo⟩ rfl (Nat.le_of_ble_eq_true rfl) (fun r hr => mJ4_charAt w (Nat.le_refl 3) (Nat.le_refl 55) x8_4 v1 r1_1.2 r hr) (fun r12_5 => ?_)
    exact tr_rret C E dJ3_charAt_15
theorem mJ3_charAt {G : gv_t} {fr lo : Nat} (w : gw_ G) (hfr : 4 ≤ fr) (hlo : 76 ≤ lo) (o : Nat) (v1 : Int32) (h : ph_t) (r : Int32 × ph_t) (hf : fJ3_charAt o v1 h = some r) : Mt G yJ3_charAt cJ3_charAt 2 (some .char) fr lo [.inr (.inr (some o)), .inl v1] h r.2 (.returned (ov_I r.1)) := by
  refine mt_of (cx_0 w) (by decide +kernel) rfl (Nat.le_of_ble_eq_true rfl) (fun Z hZ C Rm E hin => ?_)
  subst hZ
  exact tJ3_charAt_E w C Rm E hfr hlo o v1 h r hf ⟨rfl, rfl⟩
noncomputable def fJ3_coder (o : Nat) (h : ph_t) : Option (Int32 × ph_t) :=
  if (1 : Int32) = 0 then (rt_ .byte 1 h) else (sk_ (some o)).bind fun x7_1 => rt_ .byte x7_1 h
theorem tJ3_coder_E {G : gv_t} {Z : zx_t} {fr lo : Nat} (w : gw_ G) (C : Cz G Z cJ3_coder RJ3 1 (some .byte)) (Rm : Rz Z fr lo) {oE : Outcome} (E : qe_ G Z oE) (hfr : 1 ≤ fr) (hlo : 12 ≤ lo) (o : Nat) (h : ph_t) : Tr G Z (gd_ ov_I oE (zx_1 Z)) 0 [(0, .inr (.inr (some o)))] [] h (fJ3_coder o h) := by
  unfold fJ3_coder
  refine tr_getsC C w 3 rfl dJ3_coder_0 q585 ?_
  refine tr_if_eq C 13 6 rfl dJ3_coder_3 (by decide) ?_ ?_
  · refine tr_iconst C 14 rfl dJ3_coder_13 (v := 1) (by decide) ?_
    exact tr_rret C E dJ3_coder_14
  · refine tr_aload_n C 7 rfl dJ3_coder_6 0 rfl 0 rfl ?_
    refine tr_scod C w 10 rfl dJ3_coder_7 q2145 (fun x7_1 => ?_)
    refine tr_goto C 14 dJ3_coder_10 (by decide) ?_
    exact tr_rret C E dJ3_coder_14
theorem mJ3_coder {G : gv_t} {fr lo : Nat} (w : gw_ G) (hfr : 1 ≤ fr) (hlo : 12 ≤ lo) (o : Nat) (h : ph_t) (r : Int32 × ph_t) (hf : fJ3_coder o h = some r) : Mt G yJ3_coder cJ3_coder 1 (some .byte) fr lo [.inr (.inr (some o))] h r.2 (.returned (ov_I r.1)) := by
  refine mt_of (cx_0 w) (by decide +kernel) rfl (Nat.le_of_ble_eq_true rfl) (fun Z hZ C Rm E hin => ?_)
  subst hZ
  exact tJ3_coder_E w C Rm E hfr hlo o h r hf ⟨rfl, rfl⟩
noncomputable def fJ3_length (o : Nat) (h : ph_t) : Option (Int32 × ph_t) :=
  (sv_ (some o)).bind fun x1_1 => (nS_ x1_1).bind fun x4_2 => (ds_ (some o)).bind fun a6_4 => (fJ3_coder a6_4 h).bind fun r6_3 => some ((is_ x4_2 r6_3.1), r6_3.2)
theorem tJ3_length_E {G : gv_t} {Z : zx_t} {fr lo : Nat} (w : gw_ G) (C : Cz G Z cJ3_length RJ3 1 (some .int)) (Rm : Rz Z fr lo) {oE : Outcome} (E : qe_ G Z oE) (hfr : 2 ≤ fr) (hlo : 32 ≤ lo) (o : Nat) (h : ph_t) : Tr G Z (gd_ ov_I oE (zx_1 Z)) 0 [(0, .inr (.inr (some o)))] [] h (fJ3_length o h) := by
  unfold fJ3_length
  refine tr_aload_n C 1 rfl dJ3_length_0 0 rfl 0 rfl ?_
  refine tr_sval C w 4 rfl dJ3_length_1 q2144 (fun x1_1 => ?_)
  refine tr_alenS C w 5 rfl dJ3_length_4 (fun x4_2 => ?_)
  refine tr_aload_n C 6 rfl dJ3_length_5 0 rfl 0 rfl ?_
  refine tr_callTI (f := fun a => fJ3_coder a h) (x := (some o)) (n := 0) (As := []) (rest := [.int x4_2]) (fr2 := 1) (lo2 := 12) C w Rm 9 rfl dJ3_length_6 (lw_V q581 q582 q583 q165 q584) (by decide +kernel) rfl ⟨Nat.le_trans (Nat.le_of_ble_eq_true rfl) hfr, Nat.le_trans (Nat.le_of_ble_eq_true rfl) hlo⟩ rfl (Nat.le_of_ble_eq_true rfl) (fun a r hr => mJ3_coder w (Nat.le_refl 1) (Nat.le_refl 12) a h r hr) (fun r6_3 => ?_)
  refine tr_ishr C 10 rfl dJ3_length_9 ?_
  exact tr_iret C E dJ3_length_10
theorem mJ3_length {G : gv_t} {fr lo : Nat} (w : gw_ G) (hfr : 2 ≤ fr) (hlo : 32 ≤ lo) (o : Nat) (h : ph_t) (r : Int32 × ph_t) (hf : fJ3_length o h = some r) : Mt G yJ3_length cJ3_length 1 (some .int) fr lo [.inr (.inr (some o))] h r.2 (.returned (ov_I r.1)) := by
  refine mt_of (cx_0 w) (by decide +kernel) rfl (Nat.le_of_ble_eq_true rfl) (fun Z hZ C Rm E hin => ?_)
  subst hZ
  exact tJ3_length_E w C Rm E hfr hlo o h r hf ⟨rfl, rfl⟩
