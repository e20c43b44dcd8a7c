/-! the law: printed by gen3.py out of the bytecode -/
abbrev lL_law_L18 (v1 : Option Nat) (v2 : Option Nat) : (Int32 × ph_t) → lo_t := fun s => [(0, .inr (.inr (some 60))), (1, .inr (.inr v1)), (2, .inr (.inr v2)), (3, .inl s.1)]
noncomputable def fL_law_L1263 (n0 : Nat) (xs : Nat → Int32) (v1 : Option Nat) (v2 : Option Nat) (v3 : Int32) (h : ph_t) : Option ((Int32 × ph_t) ⊕ (Int32 × ph_t)) :=
  some (.inl ((v3 + 6), h))
theorem tL_law_L1263 {G : gv_t} {Z : zx_t} {fr lo : Nat} (w : gw_ G) (C : Cz G Z cL_law R_law 4 (some .boolean)) (Rm : Rz Z fr lo) (E : le_ G Z) (n0 : Nat) (xs : Nat → Int32) (SX : gs_ G n0 xs) (hfr : 1292 ≤ fr) (hlo : 27001 ≤ lo) (v1 : Option Nat) (v2 : Option Nat) (v3 : Int32) (h : ph_t) : Tr G Z (gl_ G Z 18 (lL_law_L18 v1 v2) (fun s => s.2) gdl_) 1263 [(0, .inr (.inr (some 60))), (1, .inr (.inr v1)), (2, .inr (.inr v2)), (3, .inl v3)] [] h (fL_law_L1263 n0 xs v1 v2 v3 h) := by
  unfold fL_law_L1263
  refine tr_iinc (L' := [(3, .inl (v3 + 6)), (0, .inr (.inr (some 60))), (1, .inr (.inr v1)), (2, .inr (.inr v2))]) (v := (v3 + 6)) C 1266 rfl dL_law_1263 3 rfl rfl (by decide) rfl ?_
  refine tr_goto C 18 dL_law_1266 (by decide) ?_
  exact tr_back (s := ((v3 + 6), h)) [1, 2, 3, 0] rfl
noncomputable def fL_law_L1074 (n0 : Nat) (xs : Nat → Int32) (v1 : Option Nat) (v2 : Option Nat) (v3 : Int32) (k0 : Int32) (k1 : Option Nat) (k2 : Int32) (k3 : Int32) (h : ph_t) : Option ((Int32 × ph_t) ⊕ (Int32 × ph_t)) :=
  (dv_ h k1 2).bind fun a1074_269 => (fX3_trial a1074_269 k2 k3 h).bind fun r1074_268 => if k0 = r1074_268.1 then (fL_law_L1263 n0 xs v1 v2 v3 r1074_268.2) else xr_ (rz_ 0 r1074_268.2)
theorem tL_law_L1074 {G : gv_t} {Z : zx_t} {fr lo : Nat} (w : gw_ G) (C : Cz G Z cL_law R_law 4 (some .boolean)) (Rm : Rz Z fr lo) (E : le_ G Z) (n0 : Nat) (xs : Nat → Int32) (SX : gs_ G n0 xs) (hfr : 1292 ≤ fr) (hlo : 27001 ≤ lo) (v1 : Option Nat) (v2 : Option Nat) (v3 : Int32) (k0 : Int32) (k1 : Option Nat) (k2 : Int32) (k3 : Int32) (h : ph_t) : Tr G Z (gl_ G Z 18 (lL_law_L18 v1 v2) (fun s => s.2) gdl_) 1074 [(0, .inr (.inr (some 60))), (1, .inr (.inr v1)), (2, .inr (.inr v2)), (3, .inl v3)] [.int k3, .int k2, rf_ G k1, .int k0] h (fL_law_L1074 n0 xs v1 v2 v3 k0 k1 k2 k3 h) := by
  unfold fL_law_L1074
  refine tr_callVI (f := fun a => fX3_trial a k2 k3 h) (x := k1) (n := 2) (As := [.inl k2, .inl k3]) (rest := [.int k0]) (fr2 := 3) (lo2 := 58) C Rm 1077 rfl dL_law_1074 (lw_V q2088 q2089 q2090 q162 q2091) (kX3 w) (by decide +kernel) rfl ⟨Nat.le_trans (Nat.le_of_ble_eq_true rfl) hfr, Nat.le_trans (Nat.le_of_ble_eq_true rfl) hlo⟩ rfl (Nat.le_of_ble_eq_true rfl) (fun a r hr => mX3_trial w (Nat.le_refl 3) (Nat.le_refl 58) a k2 k3 h r hr) (fun r1074_268 => ?_)
  refine tr_icmp_eq C 1263 1080 rfl dL_law_1077 (by decide) ?_ ?_
  · exact tL_law_L1263 w C Rm E n0 xs SX hfr hlo v1 v2 v3 r1074_268.2
  · refine tr_xr ?_
    refine tr_iconst C 1081 rfl dL_law_1080 (v := 0) (by decide) ?_
    exact tr_lawret C E dL_law_1081
noncomputable def fL_law_L1052 (n0 : Nat) (xs : Nat → Int32) (v1 : Option Nat) (v2 : Option Nat) (v3 : Int32) (k0 : Option Nat) (k1 : Int32) (k2 : Int32) (h : ph_t) : Option ((Int32 × ph_t) ⊕ (Int32 × ph_t)) :=
  (dv_ h k0 0).bind fun a1052_265 => (fX0_trial a1052_265 k1 k2 h).bind fun r1052_264 => (xP_ n0 xs (v3 + 1)).bind fun x1060_266 => (xP_ n0 xs (v3 + 2)).bind fun x1065_267 => if x1065_267 = 0 then (fL_law_L1074 n0 xs v1 v2 v3 r1052_264.1 v2 x1060_266 0 r1052_264.2) else fL_law_L1074 n0 xs v1 v2 v3 r1052_264.1 v2 x1060_266 1 r1052_264.2
theorem tL_law_L1052 {G : gv_t} {Z : zx_t} {fr lo : Nat} (w : gw_ G) (C : Cz G Z cL_law R_law 4 (some .boolean)) (Rm : Rz Z fr lo) (E : le_ G Z) (n0 : Nat) (xs : Nat → Int32) (SX : gs_ G n0 xs) (hfr : 1292 ≤ fr) (hlo : 27001 ≤ lo) (v1 : Option Nat) (v2 : Option Nat) (v3 : Int32) (k0 : Option Nat) (k1 : Int32) (k2 : Int32) (h : ph_t) : Tr G Z (gl_ G Z 18 (lL_law_L18 v1 v2) (fun s => s.2) gdl_) 1052 [(0, .inr (.inr (some 60))), (1, .inr (.inr v1)), (2, .inr (.inr v2)), (3, .inl v3)] [.int k2, .int k1, rf_ G k0] h (fL_law_L1052 n0 xs v1 v2 v3 k0 k1 k2 h) := by
  unfold fL_law_L1052
  refine tr_callVI (f := fun a => fX0_trial a k1 k2 h) (x := k0) (n := 2) (As := [.inl k1, .inl k2]) (rest := []) (fr2 := 3) (lo2 := 54) C Rm 1055 rfl dL_law_1052 (lw_V q1261 q1262 q1263 q156 q1264) (kX0 w) (by decide +kernel) rfl ⟨Nat.le_trans (Nat.le_of_ble_eq_true rfl) hfr, Nat.le_trans (Nat.le_of_ble_eq_true rfl) hlo⟩ rfl (Nat.le_of_ble_eq_true rfl) (fun a r hr => mX0_trial w (Nat.le_refl 3) (Nat.le_refl 54) a k1 k2 h r hr) (fun r1052_264 => ?_)
  refine tr_aload_n C 1056 rfl dL_law_1055 2 rfl 2 rfl ?_
  refine tr_aload_n C 1057 rfl dL_law_1056 0 rfl 0 rfl ?_
  refine tr_iload_n C 1058 rfl dL_law_1057 3 rfl 3 rfl ?_
  refine tr_iconst C 1059 rfl dL_law_1058 (v := 1) (by decide) ?_
  refine tr_iadd C 1060 rfl dL_law_1059 ?_
  refine tr_spld C SX 1061 rfl dL_law_1060 (fun x1060_266 => ?_)
  refine tr_aload_n C 1062 rfl dL_law_1061 0 rfl 0 rfl ?_
  refine tr_iload_n C 1063 rfl dL_law_1062 3 rfl 3 rfl ?_
  refine tr_iconst C 1064 rfl dL_law_1063 (v := 2) (by decide) ?_
  refine tr_iadd C 1065 rfl dL_law_1064 ?_
  refine tr_spld C SX 1066 rfl dL_law_1065 (fun x1065_267 => ?_)
  refine tr_if_eq C 1073 1069 rfl dL_law_1066 (by decide) ?_ ?_
  · refine tr_iconst C 1074 rfl dL_law_1073 (v := 0) (by decide) ?_
    exact tL_law_L1074 w C Rm E n0 xs SX hfr hlo v1 v2 v3 r1052_264.1 v2 x1060_266 0 r1052_264.2
  · refine tr_iconst C 1070 rfl dL_law_1069 (v := 1) (by decide) ?_
    refine tr_goto C 1074 dL_law_1070 (by decide) ?_
    exact tL_law_L1074 w C Rm E n0 xs SX hfr hlo v1 v2 v3 r1052_264.1 v2 x1060_266 1 r1052_264.2
noncomputable def fL_law_L18_b (n0 : Nat) (xs : Nat → Int32) (v1 : Option Nat) (v2 : Option Nat) (v3 : Int32) (h : ph_t) : Option ((Int32 × ph_t) ⊕ (Int32 × ph_t)) :=
  if ((Int32.ofNat n0) - 6) < v3 then (xr_ (rz_ 1 h)) else (xP_ n0 xs v3).bind fun x29_7 => if (x29_7 &&& 63) = 0 then ((xP_ n0 xs (v3 + 1)).bind fun x201_8 => (xP_ n0 xs (v3 + 2)).bind fun x206_9 => (xP_ n0 xs (v3 + 3)).bind fun x211_10 => (xP_ n0 xs (v3 + 4)).bind fun x216_11 => (xP_ n0 xs (v3 + 5)).bind fun x221_12 => (dv_ h v1 0).bind fun a222_14 => (fX0_feed a222_14 x201_8 x206_9 x211_10 x216_11 x221_12 h).bind fun r222_13 => (xP_ n0 xs (v3 + 1)).bind fun x230_15 => (xP_ n0 xs (v3 + 2)).bind fun x235_16 => (xP_ n0 xs (v3 + 3)).bind fun x240_17 => (xP_ n0 xs (v3 + 4)).bind fun x245_18 => (xP_ n0 xs (v3 + 5)).bind fun x250_19 => (dv_ r222_13.2 v2 2).bind fun a251_21 => (fX3_feed a251_21 x230_15 x235_16 x240_17 x245_18 x250_19 r222_13.2).bind fun r251_20 => if r222_13.1 = r251_20.1 then (fL_law_L1263 n0 xs v1 v2 v3 r251_20.2) else xr_ (rz_ 0 r251_20.2)) else if (x29_7 &&& 63) = 1 then ((xP_ n0 xs (v3 + 1)).bind fun x264_22 => (dv_ h v1 0).bind fun a265_24 => (fX0_end a265_24 x264_22 h).bind fun r265_23 => (xP_ n0 xs (v3 + 1)).bind fun x273_25 => (dv_ r265_23.2 v2 2).bind fun a274_27 => (fX3_end a274_27 x273_25 r265_23.2).bind fun r274_26 => if r265_23.1 = r274_26.1 then (fL_law_L1263 n0 xs v1 v2 v3 r274_26.2) else xr_ (rz_ 0 r274_26.2)) else if (x29_7 &&& 63) = 2 then ((dv_ h v1 0).bind fun a283_29 => (fX0_land a283_29 h).bind fun r283_28 => (dv_ r283_28.2 v2 2).bind fun a287_31 => (fX3_land a287_31 r283_28.2).bind fun r287_30 => if r283_28.1 = r287_30.1 then (fL_law_L1263 n0 xs v1 v2 v3 r287_30.2) else xr_ (rz_ 0 r287_30.2)) else if (x29_7 &&& 63) = 3 then ((dv_ h v1 0).bind fun a296_33 => (fX0_saying a296_33 h).bind fun r296_32 => (dv_ r296_32.2 v2 2).bind fun a300_35 => (fX3_saying a300_35 r296_32.2).bind fun r300_34 => if r296_32.1 = r300_34.1 then (fL_law_L1263 n0 xs v1 v2 v3 r300_34.2) else xr_ (rz_ 0 r300_34.2)) else if (x29_7 &&& 63) = 4 then ((dv_ h v1 0).bind fun a309_37 => (fX0_rule a309_37 h).bind fun r309_36 => (dv_ r309_36.2 v2 2).bind fun a313_39 => (fX3_rule a313_39 r309_36.2).bind fun r313_38 => if r309_36.1 = r313_38.1 then (fL_law_L1263 n0 xs v1 v2 v3 r313_38.2) else xr_ (rz_ 0 r313_38.2)) else if (x29_7 &&& 63) = 5 then ((xP_ n0 xs (v3 + 1)).bind fun x326_40 => (xP_ n0 xs (v3 + 2)).bind fun x331_41 => (dv_ h v1 0).bind fun a332_43 => (fX0_person a332_43 x326_40 x331_41 h).bind fun r332_42 => (xP_ n0 xs (v3 + 1)).bind fun x340_44 => (xP_ n0 xs (v3 + 2)).bind fun x345_45 => (dv_ r332_42.2 v2 2).bind fun a346_47 => (fX3_person a346_47 x340_44 x345_45 r332_42.2).bind fun r346_46 => if r332_42.1 = r346_46.1 then (fL_law_L1263 n0 xs v1 v2 v3 r346_46.2) else xr_ (rz_ 0 r346_46.2)) else if (x29_7 &&& 63) = 6 then ((xP_ n0 xs (v3 + 1)).bind fun x359_48 => (dv_ h v1 0).bind fun a360_50 => (fX0_fact a360_50 x359_48 h).bind fun r360_49 => (xP_ n0 xs (v3 + 1)).bind fun x368_51 => (dv_ r360_49.2 v2 2).bind fun a369_53 => (fX3_fact_2 a369_53 x368_51 r360_49.2).bind fun r369_52 => if r360_49.1 = r369_52.1 then (fL_law_L1263 n0 xs v1 v2 v3 r369_52.2) else xr_ (rz_ 0 r369_52.2)) else if (x29_7 &&& 63) = 7 then ((xP_ n0 xs (v3 + 1)).bind fun x382_54 => (dv_ h v1 0).bind fun a383_56 => (fX0_place a383_56 x382_54 h).bind fun r383_55 => (xP_ n0 xs (v3 + 1)).bind fun x391_57 => (dv_ r383_55.2 v2 2).bind fun a392_59 => (fX3_place a392_59 x391_57 r383_55.2).bind fun r392_58 => if r383_55.1 = r392_58.1 then (fL_law_L1263 n0 xs v1 v2 v3 r392_58.2) else xr_ (rz_ 0 r392_58.2)) else if (x29_7 &&& 63) = 8 then ((xP_ n0 xs (v3 + 1)).bind fun x405_60 => (xP_ n0 xs (v3 + 2)).bind fun x410_61 => (dv_ h v1 0).bind fun a411_63 => (fX0_way a411_63 x405_60 x410_61 h).bind fun r411_62 => (xP_ n0 xs (v3 + 1)).bind fun x419_64 => (xP_ n0 xs (v3 + 2)).bind fun x424_65 => (dv_ r411_62.2 v2 2).bind fun a425_67 => (fX3_way a425_67 x419_64 x424_65 r411_62.2).bind fun r425_66 => if r411_62.1 = r425_66.1 then (fL_law_L1263 n0 xs v1 v2 v3 r425_66.2) else xr_ (rz_ 0 r425_66.2)) else if (x29_7 &&& 63) = 9 then ((xP_ n0 xs (v3 + 1)).bind fun x438_68 => (xP_ n0 xs (v3 + 2)).bind fun x443_69 => (dv_ h v1 0).bind fun a444_71 => (fX0_so a444_71 x438_68 x443_69 h).bind fun r444_70 => (xP_ n0 xs (v3 + 1)).bind fun x452_72 => (xP_ n0 xs (v3 + 2)).bind fun x457_73 => (dv_ r444_70.2 v2 2).bind fun a458_75 => (fX3_so a458_75 x452_72 x457_73 r444_70.2).bind fun r458_74 => if r444_70.1 = r458_74.1 then (fL_law_L1263 n0 xs v1 v2 v3 r458_74.2) else xr_ (rz_ 0 r458_74.2)) else if (x29_7 &&& 63) = 10 then ((xP_ n0 xs (v3 + 1)).bind fun x471_76 => (dv_ h v1 0).bind fun a472_78 => (fX0_isTrue a472_78 x471_76 h).bind fun r472_77 => (xP_ n0 xs (v3 + 1)).bind fun x480_79 => (dv_ r472_77.2 v2 2).bind fun a481_81 => (fX3_isTrue a481_81 x480_79 r472_77.2).bind fun r481_80 => if r472_77.1 = r481_80.1 then (fL_law_L1263 n0 xs v1 v2 v3 r481_80.2) else xr_ (rz_ 0 r481_80.2)) else if (x29_7 &&& 63) = 11 then ((xP_ n0 xs (v3 + 1)).bind fun x494_82 => (xP_ n0 xs (v3 + 2)).bind fun x499_83 => (dv_ h v1 0).bind fun a500_85 => (fX0_knows a500_85 x494_82 x499_83 h).bind fun r500_84 => (xP_ n0 xs (v3 + 1)).bind fun x508_86 => (xP_ n0 xs (v3 + 2)).bind fun x513_87 => (dv_ r500_84.2 v2 2).bind fun a514_89 => (fX3_knows a514_89 x508_86 x513_87 r500_84.2).bind fun r514_88 => if r500_84.1 = r514_88.1 then (fL_law_L1263 n0 xs v1 v2 v3 r514_88.2) else xr_ (rz_ 0 r514_88.2)) else if (x29_7 &&& 63) = 12 then ((xP_ n0 xs (v3 + 1)).bind fun x527_90 => (xP_ n0 xs (v3 + 2)).bind fun x532_91 => (dv_ h v1 0).bind fun a533_93 => (fX0_possible a533_93 x527_90 x532_91 h).bind fun r533_92 => (xP_ n0 xs (v3 + 1)).bind fun x541_94 => (xP_ n0 xs (v3 + 2)).bind fun x546_95 => (dv_ r533_92.2 v2 2).bind fun a547_97 => (fX3_possible a547_97 x541_94 x546_95 r533_92.2).bind fun r547_96 => if r533_92.1 = r547_96.1 then (fL_law_L1263 n0 xs v1 v2 v3 r547_96.2) else xr_ (rz_ 0 r547_96.2)) else if (x29_7 &&& 63) = 13 then ((xP_ n0 xs (v3 + 1)).bind fun x560_98 => (dv_ h v1 0).bind fun a561_100 => (fX0_gain a561_100 x560_98 h).bind fun r561_99 => (xP_ n0 xs (v3 + 1)).bind fun x569_101 => (dv_ r561_99.2 v2 2).bind fun a570_103 => (fX3_gain a570_103 x569_101 r561_99.2).bind fun r570_102 => if r561_99.1 = r570_102.1 then (fL_law_L1263 n0 xs v1 v2 v3 r570_102.2) else xr_ (rz_ 0 r570_102.2)) else if (x29_7 &&& 63) = 14 then ((xP_ n0 xs (v3 + 1)).bind fun x583_104 => (dv_ h v1 0).bind fun a584_106 => (fX0_shown a584_106 x583_104 h).bind fun r584_105 => (xP_ n0 xs (v3 + 1)).bind fun x592_107 => (dv_ r584_105.2 v2 2).bind fun a593_109 => (fX3_shown a593_109 x592_107 r584_105.2).bind fun r593_108 => if r584_105.1 = r593_108.1 then (fL_law_L1263 n0 xs v1 v2 v3 r593_108.2) else xr_ (rz_ 0 r593_108.2)) else if (x29_7 &&& 63) = 15 then ((xP_ n0 xs (v3 + 1)).bind fun x606_110 => (xP_ n0 xs (v3 + 2)).bind fun x611_111 => (dv_ h v1 0).bind fun a612_113 => (fX0_cross a612_113 x606_110 x611_111 h).bind fun r612_112 => (xP_ n0 xs (v3 + 1)).bind fun x620_114 => (xP_ n0 xs (v3 + 2)).bind fun x625_115 => (dv_ r612_112.2 v2 2).bind fun a626_117 => (fX3_cross a626_117 x620_114 x625_115 r612_112.2).bind fun r626_116 => if r612_112.1 = r626_116.1 then (fL_law_L1263 n0 xs v1 v2 v3 r626_116.2) else xr_ (rz_ 0 r626_116.2)) else if (x29_7 &&& 63) = 16 then ((xP_ n0 xs (v3 + 1)).bind fun x639_118 => (xP_ n0 xs (v3 + 2)).bind fun x644_119 => (xP_ n0 xs (v3 + 3)).bind fun x649_120 => (dv_ h v1 0).bind fun a650_122 => (fX0_tell a650_122 x639_118 x644_119 x649_120 h).bind fun r650_121 => (xP_ n0 xs (v3 + 1)).bind fun x658_123 => (xP_ n0 xs (v3 + 2)).bind fun x663_124 => (xP_ n0 xs (v3 + 3)).bind fun x668_125 => (dv_ r650_121.2 v2 2).bind fun a669_127 => (fX3_tell a669_127 x658_123 x663_124 x668_125 r650_121.2).bind fun r669_126 => if r650_121.1 = r669_126.1 then (fL_law_L1263 n0 xs v1 v2 v3 r669_126.2) else xr_ (rz_ 0 r669_126.2)) else if (x29_7 &&& 63) = 17 then ((xP_ n0 xs (v3 + 1)).bind fun x682_128 => (xP_ n0 xs (v3 + 2)).bind fun x687_129 => (dv_ h v1 0).bind fun a688_131 => (fX0_look a688_131 x682_128 x687_129 h).bind fun r688_130 => (xP_ n0 xs (v3 + 1)).bind fun x696_132 => (xP_ n0 xs (v3 + 2)).bind fun x701_133 => (dv_ r688_130.2 v2 2).bind fun a702_135 => (fX3_look a702_135 x696_132 x701_133 r688_130.2).bind fun r702_134 => if r688_130.1 = r702_134.1 then (fL_law_L1263 n0 xs v1 v2 v3 r702_134.2) else xr_ (rz_ 0 r702_134.2)) else if (x29_7 &&& 63) = 18 then ((dv_ h v1 0).bind fun a711_137 => (fX0_midnight a711_137 h).bind fun r711_136 => (dv_ r711_136.2 v2 2).bind fun a715_139 => (fX3_midnight a715_139 r711_136.2).bind fun r715_138 => if r711_136.1 = r715_138.1 then (fL_law_L1263 n0 xs v1 v2 v3 r715_138.2) else xr_ (rz_ 0 r715_138.2)) else if (x29_7 &&& 63) = 19 then ((dv_ h v1 0).bind fun a724_141 => (fX0_undo a724_141 h).bind fun r724_140 => (dv_ r724_140.2 v2 2).bind fun a728_143 => (fX3_undo a728_143 r724_140.2).bind fun r728_142 => if r724_140.1 = r728_142.1 then (fL_law_L1263 n0 xs v1 v2 v3 r728_142.2) else xr_ (rz_ 0 r728_142.2)) else if (x29_7 &&& 63) = 20 then ((xP_ n0 xs (v3 + 1)).bind fun x741_144 => (xP_ n0 xs (v3 + 2)).bind fun x746_145 => (dv_ h v1 0).bind fun a747_147 => (fX0_run a747_147 x741_144 x746_145 h).bind fun r747_146 => (xP_ n0 xs (v3 + 1)).bind fun x755_148 => (xP_ n0 xs (v3 + 2)).bind fun x760_149 => (dv_ r747_146.2 v2 2).bind fun a761_151 => (fX3_run a761_151 x755_148 x760_149 r747_146.2).bind fun r761_150 => if r747_146.1 = r761_150.1 then (fL_law_L1263 n0 xs v1 v2 v3 r761_150.2) else xr_ (rz_ 0 r761_150.2)) else if (x29_7 &&& 63) = 21 then ((xP_ n0 xs (v3 + 1)).bind fun x774_152 => (xP_ n0 xs (v3 + 2)).bind fun x779_153 => (dv_ h v1 0).bind fun a780_155 => (fX0_follows a780_155 x774_152 x779_153 h).bind fun r780_154 => (xP_ n0 xs (v3 + 1)).bind fun x788_156 => (xP_ n0 xs (v3 + 2)).bind fun x793_157 => (dv_ r780_154.2 v2 2).bind fun a794_159 => (fX3_follows a794_159 x788_156 x793_157 r780_154.2).bind fun r794_158 => if r780_154.1 = r794_158.1 then (fL_law_L1263 n0 xs v1 v2 v3 r794_158.2) else xr_ (rz_ 0 r794_158.2)) else if (x29_7 &&& 63) = 22 then ((xP_ n0 xs (v3 + 1)).bind fun x807_160 => (xP_ n0 xs (v3 + 2)).bind fun x812_161 => (dv_ h v1 0).bind fun a813_163 => (fX0_fewest a813_163 x807_160 x812_161 h).bind fun r813_162 => (xP_ n0 xs (v3 + 1)).bind fun x821_164 => (xP_ n0 xs (v3 + 2)).bind fun x826_165 => (dv_ r813_162.2 v2 2).bind fun a827_167 => (fX3_fewest a827_167 x821_164 x826_165 r813_162.2).bind fun r827_166 => if r813_162.1 = r827_166.1 then (fL_law_L1263 n0 xs v1 v2 v3 r827_166.2) else xr_ (rz_ 0 r827_166.2)) else if (x29_7 &&& 63) = 23 then ((xP_ n0 xs (v3 + 1)).bind fun x840_168 => (xP_ n0 xs (v3 + 2)).bind fun x845_169 => (dv_ h v1 0).bind fun a846_171 => (fX0_opposite a846_171 x840_168 x845_169 h).bind fun r846_170 => (xP_ n0 xs (v3 + 1)).bind fun x854_172 => (xP_ n0 xs (v3 + 2)).bind fun x859_173 => (dv_ r846_170.2 v2 2).bind fun a860_175 => (fX3_opposite a860_175 x854_172 x859_173 r846_170.2).bind fun r860_174 => if r846_170.1 = r860_174.1 then (fL_law_L1263 n0 xs v1 v2 v3 r860_174.2) else xr_ (rz_ 0 r860_174.2)) else if (x29_7 &&& 63) = 24 then ((xP_ n0 xs (v3 + 1)).bind fun x873_176 => (xP_ n0 xs (v3 + 2)).bind fun x878_177 => (dv_ h v1 0).bind fun a879_179 => (fX0_when a879_179 x873_176 x878_177 h).bind fun r879_178 => (xP_ n0 xs (v3 + 1)).bind fun x887_180 => (xP_ n0 xs (v3 + 2)).bind fun x892_181 => (dv_ r879_178.2 v2 2).bind fun a893_183 => (fX3_when a893_183 x887_180 x892_181 r879_178.2).bind fun r893_182 => if r879_178.1 = r893_182.1 then (fL_law_L1263 n0 xs v1 v2 v3 r893_182.2) else xr_ (rz_ 0 r893_182.2)) else if (x29_7 &&& 63) = 25 then ((xP_ n0 xs (v3 + 1)).bind fun x906_184 => (xP_ n0 xs (v3 + 2)).bind fun x911_185 => (dv_ h v1 0).bind fun a912_187 => (fX0_least a912_187 x906_184 x911_185 h).bind fun r912_186 => (xP_ n0 xs (v3 + 1)).bind fun x920_188 => (xP_ n0 xs (v3 + 2)).bind fun x925_189 => (dv_ r912_186.2 v2 2).bind fun a926_191 => (fX3_least a926_191 x920_188 x925_189 r912_186.2).bind fun r926_190 => if r912_186.1 = r926_190.1 then (fL_law_L1263 n0 xs v1 v2 v3 r926_190.2) else xr_ (rz_ 0 r926_190.2)) else if (x29_7 &&& 63) = 26 then ((xP_ n0 xs (v3 + 1)).bind fun x939_192 => (xP_ n0 xs (v3 + 2)).bind fun x944_193 => (dv_ h v1 0).bind fun a945_195 => (fX0_plan a945_195 x939_192 x944_193 h).bind fun r945_194 => (xP_ n0 xs (v3 + 1)).bind fun x953_196 => (xP_ n0 xs (v3 + 2)).bind fun x958_197 => (dv_ r945_194.2 v2 2).bind fun a959_199 => (fX3_plan a959_199 x953_196 x958_197 r945_194.2).bind fun r959_198 => if r945_194.1 = r959_198.1 then (fL_law_L1263 n0 xs v1 v2 v3 r959_198.2) else xr_ (rz_ 0 r959_198.2)) else if (x29_7 &&& 63) = 27 then ((xP_ n0 xs (v3 + 1)).bind fun x972_200 => (xP_ n0 xs (v3 + 2)).bind fun x977_201 => (dv_ h v1 0).bind fun a978_203 => (fX0_walk a978_203 x972_200 x977_201 h).bind fun r978_202 => (xP_ n0 xs (v3 + 1)).bind fun x986_204 => (xP_ n0 xs (v3 + 2)).bind fun x991_205 => (dv_ r978_202.2 v2 2).bind fun a992_207 => (fX3_walk a992_207 x986_204 x991_205 r978_202.2).bind fun r992_206 => if r978_202.1 = r992_206.1 then (fL_law_L1263 n0 xs v1 v2 v3 r992_206.2) else xr_ (rz_ 0 r992_206.2)) else if (x29_7 &&& 63) = 28 then ((xP_ n0 xs (v3 + 1)).bind fun x1005_208 => (xP_ n0 xs (v3 + 2)).bind fun x1010_209 => (dv_ h v1 0).bind fun a1011_211 => (fX0_bought a1011_211 x1005_208 x1010_209 h).bind fun r1011_210 => (xP_ n0 xs (v3 + 1)).bind fun x1019_212 => (xP_ n0 xs (v3 + 2)).bind fun x1024_213 => (dv_ r1011_210.2 v2 2).bind fun a1025_215 => (fX3_bought a1025_215 x1019_212 x1024_213 r1011_210.2).bind fun r1025_214 => if r1011_210.1 = r1025_214.1 then (fL_law_L1263 n0 xs v1 v2 v3 r1025_214.2) else xr_ (rz_ 0 r1025_214.2)) else if (x29_7 &&& 63) = 29 then ((xP_ n0 xs (v3 + 1)).bind fun x1038_216 => (xP_ n0 xs (v3 + 2)).bind fun x1043_217 => if x1043_217 = 0 then (fL_law_L1052 n0 xs v1 v2 v3 v1 x1038_216 0 h) else fL_law_L1052 n0 xs v1 v2 v3 v1 x1038_216 1 h) else if (x29_7 &&& 63) = 30 then ((xP_ n0 xs (v3 + 1)).bind fun x1087_218 => (dv_ h v1 0).bind fun a1088_220 => (fX0_sets a1088_220 x1087_218 h).bind fun r1088_219 => (xP_ n0 xs (v3 + 1)).bind fun x1096_221 => (dv_ r1088_219.2 v2 2).bind fun a1097_223 => (fX3_sets a1097_223 x1096_221 r1088_219.2).bind fun r1097_222 => if r1088_219.1 = r1097_222.1 then (fL_law_L1263 n0 xs v1 v2 v3 r1097_222.2) else xr_ (rz_ 0 r1097_222.2)) else if (x29_7 &&& 63) = 31 then ((xP_ n0 xs (v3 + 1)).bind fun x1110_224 => (dv_ h v1 0).bind fun a1111_226 => (fX0_next a1111_226 x1110_224 h).bind fun r1111_225 => (xP_ n0 xs (v3 + 1)).bind fun x1119_227 => (dv_ r1111_225.2 v2 2).bind fun a1120_229 => (fX3_next a1120_229 x1119_227 r1111_225.2).bind fun r1120_228 => if r1111_225.1 = r1120_228.1 then (fL_law_L1263 n0 xs v1 v2 v3 r1120_228.2) else xr_ (rz_ 0 r1120_228.2)) else if (x29_7 &&& 63) = 32 then ((xP_ n0 xs (v3 + 1)).bind fun x1133_230 => (dv_ h v1 0).bind fun a1134_232 => (fX0_seed a1134_232 x1133_230 h).bind fun r1134_231 => (xP_ n0 xs (v3 + 1)).bind fun x1142_233 => (dv_ r1134_231.2 v2 2).bind fun a1143_235 => (fX3_seed a1143_235 x1142_233 r1134_231.2).bind fun r1143_234 => if r1134_231.1 = r1143_234.1 then (fL_law_L1263 n0 xs v1 v2 v3 r1143_234.2) else xr_ (rz_ 0 r1143_234.2)) else if (x29_7 &&& 63) = 33 then ((xP_ n0 xs (v3 + 1)).bind fun x1156_236 => (xP_ n0 xs (v3 + 2)).bind fun x1161_237 => (xP_ n0 xs (v3 + 3)).bind fun x1166_238 => (dv_ h v1 0).bind fun a1167_240 => (fX0_years a1167_240 x1156_236 x1161_237 x1166_238 h).bind fun r1167_239 => (xP_ n0 xs (v3 + 1)).bind fun x1175_241 => (xP_ n0 xs (v3 + 2)).bind fun x1180_242 => (xP_ n0 xs (v3 + 3)).bind fun x1185_243 => (dv_ r1167_239.2 v2 2).bind fun a1186_245 => (fX3_years a1186_245 x1175_241 x1180_242 x1185_243 r1167_239.2).bind fun r1186_244 => if r1167_239.1 = r1186_244.1 then (fL_law_L1263 n0 xs v1 v2 v3 r1186_244.2) else xr_ (rz_ 0 r1186_244.2)) else if (x29_7 &&& 63) = 34 then ((xP_ n0 xs (v3 + 1)).bind fun x1199_246 => (dv_ h v1 0).bind fun a1200_248 => (fX0_count a1200_248 x1199_246 h).bind fun r1200_247 => (xP_ n0 xs (v3 + 1)).bind fun x1208_249 => (dv_ r1200_247.2 v2 2).bind fun a1209_251 => (fX3_count a1209_251 x1208_249 r1200_247.2).bind fun r1209_250 => if r1200_247.1 = r1209_250.1 then (fL_law_L1263 n0 xs v1 v2 v3 r1209_250.2) else xr_ (rz_ 0 r1209_250.2)) else if (x29_7 &&& 63) = 35 then ((xP_ n0 xs (v3 + 1)).bind fun x1222_252 => (dv_ h v1 0).bind fun a1223_254 => (fX0_image a1223_254 x1222_252 h).bind fun r1223_253 => (xP_ n0 xs (v3 + 1)).bind fun x1231_255 => (dv_ r1223_253.2 v2 2).bind fun a1232_257 => (fX3_image a1232_257 x1231_255 r1223_253.2).bind fun r1232_256 => if r1223_253.1 = r1232_256.1 then (fL_law_L1263 n0 xs v1 v2 v3 r1232_256.2) else xr_ (rz_ 0 r1232_256.2)) else if (x29_7 &&& 63) = 36 then ((xP_ n0 xs (v3 + 1)).bind fun x1245_258 => (dv_ h v1 0).bind fun a1246_260 => (fX0_back a1246_260 x1245_258 h).bind fun r1246_259 => (xP_ n0 xs (v3 + 1)).bind fun x1254_261 => (dv_ r1246_259.2 v2 2).bind fun a1255_263 => (fX3_back a1255_263 x1254_261 r1246_259.2).bind fun r1255_262 => if r1246_259.1 = r1255_262.1 then (fL_law_L1263 n0 xs v1 v2 v3 r1255_262.2) else xr_ (rz_ 0 r1255_262.2)) else fL_law_L1263 n0 xs v1 v2 v3 h
noncomputable def fL_law_L18 (n0 : Nat) (xs : Nat → Int32) (v1 : Option Nat) (v2 : Option Nat) (v3 : Int32) (h : ph_t) : Option (Int32 × ph_t) := whl (fun s => fL_law_L18_b n0 xs v1 v2 s.1 s.2) (v3, h)
theorem tL_law_L18_b {G : gv_t} {Z : zx_t} {fr lo : Nat} (w : gw_ G) (C : Cz G Z cL_law R_law 4 (some .boolean)) (Rm : Rz Z fr lo) (E : le_ G Z) (n0 : Nat) (xs : Nat → Int32) (SX : gs_ G n0 xs) (hfr : 1292 ≤ fr) (hlo : 27001 ≤ lo) (v1 : Option Nat) (v2 : Option Nat) (v3 : Int32) (h : ph_t) : Tr G Z (gl_ G Z 18 (lL_law_L18 v1 v2) (fun s => s.2) gdl_) 18 [(0, .inr (.inr (some 60))), (1, .inr (.inr v1)), (2, .inr (.inr v2)), (3, .inl v3)] [] h (fL_law_L18_b n0 xs v1 v2 v3 h) := by
  unfold fL_law_L18_b
  refine tr_iload_n C 19 rfl dL_law_18 3 rfl 3 rfl ?_
  refine tr_aload_n C 20 rfl dL_law_19 0 rfl 0 rfl ?_
  refine tr_splen C SX 21 rfl dL_law_20 ?_
  refine tr_bipush C 23 rfl dL_law_21 (v := 6) (by decide) ?_
  refine tr_isub C 24 rfl dL_law_23 ?_
  refine tr_icmp_gt C 1269 27 rfl dL_law_24 (by decide) ?_ ?_
  · refine tr_xr ?_
    refine tr_iconst C 1270 rfl dL_law_1269 (v := 1) (by decide) ?_
    exact tr_lawret C E dL_law_1270
  · refine tr_aload_n C 28 rfl dL_law_27 0 rfl 0 rfl ?_
    refine tr_iload_n C 29 rfl dL_law_28 3 rfl 3 rfl ?_
    refine tr_spld C SX 30 rfl dL_law_29 (fun x29_7 => ?_)
    refine tr_bipush C 32 rfl dL_law_30 (v := 63) (by decide) ?_
    refine tr_iand C 33 rfl dL_law_32 ?_
    refine tr_tbl C dL_law_33 [(0, 196), (1, 259), (2, 282), (3, 295), (4, 308), (5, 321), (6, 354), (7, 377), (8, 400), (9, 433), (10, 466), (11, 489), (12, 522), (13, 555), (14, 578), (15, 601), (16, 634), (17, 677), (18, 710), (19, 723), (20, 736), (21, 769), (22, 802), (23, 835), (24, 868), (25, 901), (26, 934), (27, 967), (28, 1000), (29, 1033), (30, 1082), (31, 1105), (32, 1128), (33, 1151), (34, 1194), (35, 1217), (36, 1240)] 1263 (by decide +kernel) ?_
    refine tr_case (v := 0) (by decide) ?_ ?_
    · refine tr_aload_n C 197 rfl dL_law_196 1 rfl 1 rfl ?_
      refine tr_aload_n C 198 rfl dL_law_197 0 rfl 0 rfl ?_
      refine tr_iload_n C 199 rfl dL_law_198 3 rfl 3 rfl ?_
      refine tr_iconst C 200 rfl dL_law_199 (v := 1) (by decide) ?_
      refine tr_iadd C 201 rfl dL_law_200 ?_
      refine tr_spld C SX 202 rfl dL_law_201 (fun x201_8 => ?_)
      refine tr_aload_n C 203 rfl dL_law_202 0 rfl 0 rfl ?_
      refine tr_iload_n C 204 rfl dL_law_203 3 rfl 3 rfl ?_
      refine tr_iconst C 205 rfl dL_law_204 (v := 2) (by decide) ?_
      refine tr_iadd C 206 rfl dL_law_205 ?_
      refine tr_spld C SX 207 rfl dL_law_206 (fun x206_9 => ?_)
      refine tr_aload_n C 208 rfl dL_law_207 0 rfl 0 rfl ?_
      refine tr_iload_n C 209 rfl dL_law_208 3 rfl 3 rfl ?_
      refine tr_iconst C 210 rfl dL_law_209 (v := 3) (by decide) ?_
      refine tr_iadd C 211 rfl dL_law_210 ?_
      refine tr_spld C SX 212 rfl dL_law_211 (fun x211_10 => ?_)
      refine tr_aload_n C 213 rfl dL_law_212 0 rfl 0 rfl ?_
      refine tr_iload_n C 214 rfl dL_law_213 3 rfl 3 rfl ?_
      refine tr_iconst C 215 rfl dL_law_214 (v := 4) (by decide) ?_
      refine tr_iadd C 216 rfl dL_law_215 ?_
      refine tr_spld C SX 217 rfl dL_law_216 (fun x216_11 => ?_)
      refine tr_aload_n C 218 rfl dL_law_217 0 rfl 0 rfl ?_
      refine tr_iload_n C 219 rfl dL_law_218 3 rfl 3 rfl ?_
      refine tr_iconst C 220 rfl dL_law_219 (v := 5) (by decide) ?_
      refine tr_iadd C 221 rfl dL_law_220 ?_
      refine tr_spld C SX 222 rfl dL_law_221 (fun x221_12 => ?_)
      refine tr_callVI (f := fun a => fX0_feed a x201_8 x206_9 x211_10 x216_11 x221_12 h) (x := v1) (n := 5) (As := [.inl x201_8, .inl x206_9, .inl x211_10, .inl x216_11, .inl x221_12]) (rest := []) (fr2 := 2) (lo2 := 34) C Rm 225 rfl dL_law_222 (lw_V q499 q500 q501 q156 q502) (kX0 w) (by decide +kernel) rfl ⟨Nat.le_trans (Nat.le_of_ble_eq_true rfl) hfr, Nat.le_trans (Nat.le_of_ble_eq_true rfl) hlo⟩ rfl (Nat.le_of_ble_eq_true rfl) (fun a r hr => mX0_feed w (Nat.le_refl 2) (Nat.le_refl 34) a x201_8 x206_9 x211_10 x216_11 x221_12 h r hr) (fun r222_13 => ?_)
      refine tr_aload_n C 226 rfl dL_law_225 2 rfl 2 rfl ?_
      refine tr_aload_n C 227 rfl dL_law_226 0 rfl 0 rfl ?_
      refine tr_iload_n C 228 rfl dL_law_227 3 rfl 3 rfl ?_
      refine tr_iconst C 229 rfl dL_law_228 (v := 1) (by decide) ?_
      refine tr_iadd C 230 rfl dL_law_229 ?_
      refine tr_spld C SX 231 rfl dL_law_230 (fun x230_15 => ?_)
      refine tr_aload_n C 232 rfl dL_law_231 0 rfl 0 rfl ?_
      refine tr_iload_n C 233 rfl dL_law_232 3 rfl 3 rfl ?_
      refine tr_iconst C 234 rfl dL_law_233 (v := 2) (by decide) ?_
      refine tr_iadd C 235 rfl dL_law_234 ?_
      refine tr_spld C SX 236 rfl dL_law_235 (fun x235_16 => ?_)
      refine tr_aload_n C 237 rfl dL_law_236 0 rfl 0 rfl ?_
      refine tr_iload_n C 238 rfl dL_law_237 3 rfl 3 rfl ?_
      refine tr_iconst C 239 rfl dL_law_238 (v := 3) (by decide) ?_
      refine tr_iadd C 240 rfl dL_law_239 ?_
      refine tr_spld C SX 241 rfl dL_law_240 (fun x240_17 => ?_)
      refine tr_aload_n C 242 rfl dL_law_241 0 rfl 0 rfl ?_
      refine tr_iload_n C 243 rfl dL_law_242 3 rfl 3 rfl ?_
      refine tr_iconst C 244 rfl dL_law_243 (v := 4) (by decide) ?_
      refine tr_iadd C 245 rfl dL_law_244 ?_
      refine tr_spld C SX 246 rfl dL_law_245 (fun x245_18 => ?_)
      refine tr_aload_n C 247 rfl dL_law_246 0 rfl 0 rfl ?_
      refine tr_iload_n C 248 rfl dL_law_247 3 rfl 3 rfl ?_
      refine tr_iconst C 249 rfl dL_law_248 (v := 5) (by decide) ?_
      refine tr_iadd C 250 rfl dL_law_249 ?_
      refine tr_spld C SX 251 rfl dL_law_250 (fun x250_19 => ?_)
      refine tr_callVI (f := fun a => fX3_feed a x230_15 x235_16 x240_17 x245_18 x250_19 r222_13.2) (x := v2) (n := 5) (As := [.inl x230_15, .inl x235_16, .inl x240_17, .inl x245_18, .inl x250_19]) (rest := [.int r222_13.1]) (fr2 := 2) (lo2 := 34) C Rm 254 rfl dL_law_251 (lw_V q1573 q1574 q1575 q162 q1576) (kX3 w) (by decide +kernel) rfl ⟨Nat.le_trans (Nat.le_of_ble_eq_true rfl) hfr, Nat.le_trans (Nat.le_of_ble_eq_true rfl) hlo⟩ rfl (Nat.le_of_ble_eq_true rfl) (fun a r hr => mX3_feed w (Nat.le_refl 2) (Nat.le_refl 34) a x230_15 x235_16 x240_17 x245_18 x250_19 r222_13.2 r hr) (fun r251_20 => ?_)
      refine tr_icmp_eq C 1263 257 rfl dL_law_254 (by decide) ?_ ?_
      · exact tL_law_L1263 w C Rm E n0 xs SX hfr hlo v1 v2 v3 r251_20.2
      · refine tr_xr ?_
        refine tr_iconst C 258 rfl dL_law_257 (v := 0) (by decide) ?_
        exact tr_lawret C E dL_law_258
    refine tr_case (v := 1) (by decide) ?_ ?_
    · refine tr_aload_n C 260 rfl dL_law_259 1 rfl 1 rfl ?_
      refine tr_aload_n C 261 rfl dL_law_260 0 rfl 0 rfl ?_
      refine tr_iload_n C 262 rfl dL_law_261 3 rfl 3 rfl ?_
      refine tr_iconst C 263 rfl dL_law_262 (v := 1) (by decide) ?_
      refine tr_iadd C 264 rfl dL_law_263 ?_
      refine tr_spld C SX 265 rfl dL_law_264 (fun x264_22 => ?_)
      refine tr_callVI (f := fun a => fX0_end a x264_22 h) (x := v1) (n := 1) (As := [.inl x264_22]) (rest := []) (fr2 := 1) (lo2 := 12) C Rm 268 rfl dL_law_265 (lw_V q507 q508 q509 q156 q510) (kX0 w) (by decide +kernel) rfl ⟨Nat.le_trans (Nat.le_of_ble_eq_true rfl) hfr, Nat.le_trans (Nat.le_of_ble_eq_true rfl) hlo⟩ rfl (Nat.le_of_ble_eq_true rfl) (fun a r hr => mX0_end w (Nat.le_refl 1) (Nat.le_refl 12) a x264_22 h r hr) (fun r265_23 => ?_)
      refine tr_aload_n C 269 rfl dL_law_268 2 rfl 2 rfl ?_
      refine tr_aload_n C 270 rfl dL_law_269 0 rfl 0 rfl ?_
      refine tr_iload_n C 271 rfl dL_law_270 3 rfl 3 rfl ?_
      refine tr_iconst C 272 rfl dL_law_271 (v := 1) (by decide) ?_
      refine tr_iadd C 273 rfl dL_law_272 ?_
      refine tr_spld C SX 274 rfl dL_law_273 (fun x273_25 => ?_)
      refine tr_callVI (f := fun a => fX3_end a x273_25 r265_23.2) (x := v2) (n := 1) (As := [.inl x273_25]) (rest := [.int r265_23.1]) (fr2 := 1) (lo2 := 12) C Rm 277 rfl dL_law_274 (lw_V q1581 q1582 q1583 q162 q1584) (kX3 w) (by decide +kernel) rfl ⟨Nat.le_trans (Nat.le_of_ble_eq_true rfl) hfr, Nat.le_trans (Nat.le_of_ble_eq_true rfl) hlo⟩ rfl (Nat.le_of_ble_eq_true rfl) (fun a r hr => mX3_end w (Nat.le_refl 1) (Nat.le_refl 12) a x273_25 r265_23.2 r hr) (fun r274_26 => ?_)
      refine tr_icmp_eq C 1263 280 rfl dL_law_277 (by decide) ?_ ?_
      · exact tL_law_L1263 w C Rm E n0 xs SX hfr hlo v1 v2 v3 r274_26.2
      · refine tr_xr ?_
        refine tr_iconst C 281 rfl dL_law_280 (v := 0) (by decide) ?_
        exact tr_lawret C E dL_law_281
    refine tr_case (v := 2) (by decide) ?_ ?_
    · refine tr_aload_n C 283 rfl dL_law_282 1 rfl 1 rfl ?_
      refine tr_callVWI (f := fun a => fX0_land a h) (x := v1) (n := 0) (As := []) (rest := []) (fr2 := 8) (lo2 := 165) C Rm 286 rfl dL_law_283 (lw_VW q511 q512 q513 q156 q514) (kX0 w) (by decide +kernel) rfl ⟨Nat.le_trans (Nat.le_of_ble_eq_true rfl) hfr, Nat.le_trans (Nat.le_of_ble_eq_true rfl) hlo⟩ rfl (Nat.le_of_ble_eq_true rfl) (fun a r hr => mX0_land w (Nat.le_refl 8) (Nat.le_refl 165) a h r hr) (fun r283_28 => ?_)
      refine tr_aload_n C 287 rfl dL_law_286 2 rfl 2 rfl ?_
      refine tr_callVI (f := fun a => fX3_land a r283_28.2) (x := v2) (n := 0) (As := []) (rest := [.int r283_28.1]) (fr2 := 9) (lo2 := 193) C Rm 290 rfl dL_law_287 (lw_V q1585 q1586 q1587 q162 q1588) (kX3 w) (by decide +kernel) rfl ⟨Nat.le_trans (Nat.le_of_ble_eq_true rfl) hfr, Nat.le_trans (Nat.le_of_ble_eq_true rfl) hlo⟩ rfl (Nat.le_of_ble_eq_true rfl) (fun a r hr => mX3_land w (Nat.le_refl 9) (Nat.le_refl 193) a r283_28.2 r hr) (fun r287_30 => ?_)
      refine tr_icmp_eq C 1263 293 rfl dL_law_290 (by decide) ?_ ?_
      · exact tL_law_L1263 w C Rm E n0 xs SX hfr hlo v1 v2 v3 r287_30.2
      · refine tr_xr ?_
        refine tr_iconst C 294 rfl dL_law_293 (v := 0) (by decide) ?_
        exact tr_lawret C E dL_law_294
    refine tr_case (v := 3) (by decide) ?_ ?_
    · refine tr_aload_n C 296 rfl dL_law_295 1 rfl 1 rfl ?_
      refine tr_callVWI (f := fun a => fX0_saying a h) (x := v1) (n := 0) (As := []) (rest := []) (fr2 := 1162) (lo2 := 23757) C Rm 299 rfl dL_law_296 (lw_VW q702 q703 q704 q156 q705) (kX0 w) (by decide +kernel) rfl ⟨Nat.le_trans (Nat.le_of_ble_eq_true rfl) hfr, Nat.le_trans (Nat.le_of_ble_eq_true rfl) hlo⟩ rfl (Nat.le_of_ble_eq_true rfl) (fun a r hr => mX0_saying w (Nat.le_refl 1162) (Nat.le_refl 23757) a h r hr) (fun r296_32 => ?_)
      refine tr_aload_n C 300 rfl dL_law_299 2 rfl 2 rfl ?_
      refine tr_callVI (f := fun a => fX3_saying a r296_32.2) (x := v2) (n := 0) (As := []) (rest := [.int r296_32.1]) (fr2 := 8) (lo2 := 163) C Rm 303 rfl dL_law_300 (lw_V q1672 q1673 q1674 q162 q1675) (kX3 w) (by decide +kernel) rfl ⟨Nat.le_trans (Nat.le_of_ble_eq_true rfl) hfr, Nat.le_trans (Nat.le_of_ble_eq_true rfl) hlo⟩ rfl (Nat.le_of_ble_eq_true rfl) (fun a r hr => mX3_saying w (Nat.le_refl 8) (Nat.le_refl 163) a r296_32.2 r hr) (fun r300_34 => ?_)
      refine tr_icmp_eq C 1263 306 rfl dL_law_303 (by decide) ?_ ?_
      · exact tL_law_L1263 w C Rm E n0 xs SX hfr hlo v1 v2 v3 r300_34.2
      · refine tr_xr ?_
        refine tr_iconst C 307 rfl dL_law_306 (v := 0) (by decide) ?_
        exact tr_lawret C E dL_law_307
    refine tr_case (v := 4) (by decide) ?_ ?_
    · refine tr_aload_n C 309 rfl dL_law_308 1 rfl 1 rfl ?_
      refine tr_callVWI (f := fun a => fX0_rule a h) (x := v1) (n := 0) (As := []) (rest := []) (fr2 := 1291) (lo2 := 26979) C Rm 312 rfl dL_law_309 (lw_VW q793 q794 q795 q156 q796) (kX0 w) (by decide +kernel) rfl ⟨Nat.le_trans (Nat.le_of_ble_eq_true rfl) hfr, Nat.le_trans (Nat.le_of_ble_eq_true rfl) hlo⟩ rfl (Nat.le_of_ble_eq_true rfl) (fun a r hr => mX0_rule w (Nat.le_refl 1291) (Nat.le_refl 26979) a h r hr) (fun r309_36 => ?_)
      refine tr_aload_n C 313 rfl dL_law_312 2 rfl 2 rfl ?_
      refine tr_callVI (f := fun a => fX3_rule a r309_36.2) (x := v2) (n := 0) (As := []) (rest := [.int r309_36.1]) (fr2 := 13) (lo2 := 274) C Rm 316 rfl dL_law_313 (lw_V q1729 q1730 q1731 q162 q1732) (kX3 w) (by decide +kernel) rfl ⟨Nat.le_trans (Nat.le_of_ble_eq_true rfl) hfr, Nat.le_trans (Nat.le_of_ble_eq_true rfl) hlo⟩ rfl (Nat.le_of_ble_eq_true rfl) (fun a r hr => mX3_rule w (Nat.le_refl 13) (Nat.le_refl 274) a r309_36.2 r hr) (fun r313_38 => ?_)
      refine tr_icmp_eq C 1263 319 rfl dL_law_316 (by decide) ?_ ?_
      · exact tL_law_L1263 w C Rm E n0 xs SX hfr hlo v1 v2 v3 r313_38.2
      · refine tr_xr ?_
        refine tr_iconst C 320 rfl dL_law_319 (v := 0) (by decide) ?_
        exact tr_lawret C E dL_law_320
    refine tr_case (v := 5) (by decide) ?_ ?_
    · refine tr_aload_n C 322 rfl dL_law_321 1 rfl 1 rfl ?_
      refine tr_aload_n C 323 rfl dL_law_322 0 rfl 0 rfl ?_
      refine tr_iload_n C 324 rfl dL_law_323 3 rfl 3 rfl ?_
      refine tr_iconst C 325 rfl dL_law_324 (v := 1) (by decide) ?_
      refine tr_iadd C 326 rfl dL_law_325 ?_
      refine tr_spld C SX 327 rfl dL_law_326 (fun x326_40 => ?_)
      refine tr_aload_n C 328 rfl dL_law_327 0 rfl 0 rfl ?_
      refine tr_iload_n C 329 rfl dL_law_328 3 rfl 3 rfl ?_
      refine tr_iconst C 330 rfl dL_law_329 (v := 2) (by decide) ?_
      refine tr_iadd C 331 rfl dL_law_330 ?_
      refine tr_spld C SX 332 rfl dL_law_331 (fun x331_41 => ?_)
      refine tr_callVI (f := fun a => fX0_person a x326_40 x331_41 h) (x := v1) (n := 2) (As := [.inl x326_40, .inl x331_41]) (rest := []) (fr2 := 3) (lo2 := 57) C Rm 335 rfl dL_law_332 (lw_V q955 q956 q957 q156 q958) (kX0 w) (by decide +kernel) rfl ⟨Nat.le_trans (Nat.le_of_ble_eq_true rfl) hfr, Nat.le_trans (Nat.le_of_ble_eq_true rfl) hlo⟩ rfl (Nat.le_of_ble_eq_true rfl) (fun a r hr => mX0_person w (Nat.le_refl 3) (Nat.le_refl 57) a x326_40 x331_41 h r hr) (fun r332_42 => ?_)
      refine tr_aload_n C 336 rfl dL_law_335 2 rfl 2 rfl ?_
      refine tr_aload_n C 337 rfl dL_law_336 0 rfl 0 rfl ?_
      refine tr_iload_n C 338 rfl dL_law_337 3 rfl 3 rfl ?_
      refine tr_iconst C 339 rfl dL_law_338 (v := 1) (by decide) ?_
      refine tr_iadd C 340 rfl dL_law_339 ?_
      refine tr_spld C SX 341 rfl dL_law_340 (fun x340_44 => ?_)
      refine tr_aload_n C 342 rfl dL_law_341 0 rfl 0 rfl ?_
      refine tr_iload_n C 343 rfl dL_law_342 3 rfl 3 rfl ?_
      refine tr_iconst C 344 rfl dL_law_343 (v := 2) (by decide) ?_
      refine tr_iadd C 345 rfl dL_law_344 ?_
      refine tr_spld C SX 346 rfl dL_law_345 (fun x345_45 => ?_)
      refine tr_callVI (f := fun a => fX3_person a x340_44 x345_45 r332_42.2) (x := v2) (n := 2) (As := [.inl x340_44, .inl x345_45]) (rest := [.int r332_42.1]) (fr2 := 4) (lo2 := 79) C Rm 349 rfl dL_law_346 (lw_V q1799 q1800 q1801 q162 q1802) (kX3 w) (by decide +kernel) rfl ⟨Nat.le_trans (Nat.le_of_ble_eq_true rfl) hfr, Nat.le_trans (Nat.le_of_ble_eq_true rfl) hlo⟩ rfl (Nat.le_of_ble_eq_true rfl) (fun a r hr => mX3_person w (Nat.le_refl 4) (Nat.le_refl 79) a x340_44 x345_45 r332_42.2 r hr) (fun r346_46 => ?_)
      refine tr_icmp_eq C 1263 352 rfl dL_law_349 (by decide) ?_ ?_
      · exact tL_law_L1263 w C Rm E n0 xs SX hfr hlo v1 v2 v3 r346_46.2
      · refine tr_xr ?_
        refine tr_iconst C 353 rfl dL_law_352 (v := 0) (by decide) ?_
        exact tr_lawret C E dL_law_353
    refine tr_case (v := 6) (by decide) ?_ ?_
    · refine tr_aload_n C 355 rfl dL_law_354 1 rfl 1 rfl ?_
      refine tr_aload_n C 356 rfl dL_law_355 0 rfl 0 rfl ?_
      refine tr_iload_n C 357 rfl dL_law_356 3 rfl 3 rfl ?_
      refine tr_iconst C 358 rfl dL_law_357 (v := 1) (by decide) ?_
      refine tr_iadd C 359 rfl dL_law_358 ?_
      refine tr_spld C SX 360 rfl dL_law_359 (fun x359_48 => ?_)
      refine tr_callVI (f := fun a => fX0_fact a x359_48 h) (x := v1) (n := 1) (As := [.inl x359_48]) (rest := []) (fr2 := 2) (lo2 := 33) C Rm 363 rfl dL_law_360 (lw_V q981 q982 q983 q156 q984) (kX0 w) (by decide +kernel) rfl ⟨Nat.le_trans (Nat.le_of_ble_eq_true rfl) hfr, Nat.le_trans (Nat.le_of_ble_eq_true rfl) hlo⟩ rfl (Nat.le_of_ble_eq_true rfl) (fun a r hr => mX0_fact w (Nat.le_refl 2) (Nat.le_refl 33) a x359_48 h r hr) (fun r360_49 => ?_)
      refine tr_aload_n C 364 rfl dL_law_363 2 rfl 2 rfl ?_
      refine tr_aload_n C 365 rfl dL_law_364 0 rfl 0 rfl ?_
      refine tr_iload_n C 366 rfl dL_law_365 3 rfl 3 rfl ?_
      refine tr_iconst C 367 rfl dL_law_366 (v := 1) (by decide) ?_
      refine tr_iadd C 368 rfl dL_law_367 ?_
      refine tr_spld C SX 369 rfl dL_law_368 (fun x368_51 => ?_)
      refine tr_callVI (f := fun a => fX3_fact_2 a x368_51 r360_49.2) (x := v2) (n := 1) (As := [.inl x368_51]) (rest := [.int r360_49.1]) (fr2 := 3) (lo2 := 58) C Rm 372 rfl dL_law_369 (lw_V q1822 q1823 q1824 q162 q1825) (kX3 w) (by decide +kernel) rfl ⟨Nat.le_trans (Nat.le_of_ble_eq_true rfl) hfr, Nat.le_trans (Nat.le_of_ble_eq_true rfl) hlo⟩ rfl (Nat.le_of_ble_eq_true rfl) (fun a r hr => mX3_fact_2 w (Nat.le_refl 3) (Nat.le_refl 58) a x368_51 r360_49.2 r hr) (fun r369_52 => ?_)
      refine tr_icmp_eq C 1263 375 rfl dL_law_372 (by decide) ?_ ?_
      · exact tL_law_L1263 w C Rm E n0 xs SX hfr hlo v1 v2 v3 r369_52.2
      · refine tr_xr ?_
        refine tr_iconst C 376 rfl dL_law_375 (v := 0) (by decide) ?_
        exact tr_lawret C E dL_law_376
    refine tr_case (v := 7) (by decide) ?_ ?_
    · refine tr_aload_n C 378 rfl dL_law_377 1 rfl 1 rfl ?_
      refine tr_aload_n C 379 rfl dL_law_378 0 rfl 0 rfl ?_
      refine tr_iload_n C 380 rfl dL_law_379 3 rfl 3 rfl ?_
      refine tr_iconst C 381 rfl dL_law_380 (v := 1) (by decide) ?_
      refine tr_iadd C 382 rfl dL_law_381 ?_
      refine tr_spld C SX 383 rfl dL_law_382 (fun x382_54 => ?_)
      refine tr_callVI (f := fun a => fX0_place a x382_54 h) (x := v1) (n := 1) (As := [.inl x382_54]) (rest := []) (fr2 := 2) (lo2 := 33) C Rm 386 rfl dL_law_383 (lw_V q986 q987 q988 q156 q989) (kX0 w) (by decide +kernel) rfl ⟨Nat.le_trans (Nat.le_of_ble_eq_true rfl) hfr, Nat.le_trans (Nat.le_of_ble_eq_true rfl) hlo⟩ rfl (Nat.le_of_ble_eq_true rfl) (fun a r hr => mX0_place w (Nat.le_refl 2) (Nat.le_refl 33) a x382_54 h r hr) (fun r383_55 => ?_)
      refine tr_aload_n C 387 rfl dL_law_386 2 rfl 2 rfl ?_
      refine tr_aload_n C 388 rfl dL_law_387 0 rfl 0 rfl ?_
      refine tr_iload_n C 389 rfl dL_law_388 3 rfl 3 rfl ?_
      refine tr_iconst C 390 rfl dL_law_389 (v := 1) (by decide) ?_
      refine tr_iadd C 391 rfl dL_law_390 ?_
      refine tr_spld C SX 392 rfl dL_law_391 (fun x391_57 => ?_)
      refine tr_callVI (f := fun a => fX3_place a x391_57 r383_55.2) (x := v2) (n := 1) (As := [.inl x391_57]) (rest := [.int r383_55.1]) (fr2 := 3) (lo2 := 58) C Rm 395 rfl dL_law_392 (lw_V q1830 q1831 q1832 q162 q1833) (kX3 w) (by decide +kernel) rfl ⟨Nat.le_trans (Nat.le_of_ble_eq_true rfl) hfr, Nat.le_trans (Nat.le_of_ble_eq_true rfl) hlo⟩ rfl (Nat.le_of_ble_eq_true rfl) (fun a r hr => mX3_place w (Nat.le_refl 3) (Nat.le_refl 58) a x391_57 r383_55.2 r hr) (fun r392_58 => ?_)
      refine tr_icmp_eq C 1263 398 rfl dL_law_395 (by decide) ?_ ?_
      · exact tL_law_L1263 w C Rm E n0 xs SX hfr hlo v1 v2 v3 r392_58.2
      · refine tr_xr ?_
        refine tr_iconst C 399 rfl dL_law_398 (v := 0) (by decide) ?_
        exact tr_lawret C E dL_law_399
    refine tr_case (v := 8) (by decide) ?_ ?_
    · refine tr_aload_n C 401 rfl dL_law_400 1 rfl 1 rfl ?_
      refine tr_aload_n C 402 rfl dL_law_401 0 rfl 0 rfl ?_
      refine tr_iload_n C 403 rfl dL_law_402 3 rfl 3 rfl ?_
      refine tr_iconst C 404 rfl dL_law_403 (v := 1) (by decide) ?_
      refine tr_iadd C 405 rfl dL_law_404 ?_
      refine tr_spld C SX 406 rfl dL_law_405 (fun x405_60 => ?_)
      refine tr_aload_n C 407 rfl dL_law_406 0 rfl 0 rfl ?_
      refine tr_iload_n C 408 rfl dL_law_407 3 rfl 3 rfl ?_
      refine tr_iconst C 409 rfl dL_law_408 (v := 2) (by decide) ?_
      refine tr_iadd C 410 rfl dL_law_409 ?_
      refine tr_spld C SX 411 rfl dL_law_410 (fun x410_61 => ?_)
      refine tr_callVI (f := fun a => fX0_way a x405_60 x410_61 h) (x := v1) (n := 2) (As := [.inl x405_60, .inl x410_61]) (rest := []) (fr2 := 2) (lo2 := 33) C Rm 414 rfl dL_law_411 (lw_V q994 q995 q996 q156 q997) (kX0 w) (by decide +kernel) rfl ⟨Nat.le_trans (Nat.le_of_ble_eq_true rfl) hfr, Nat.le_trans (Nat.le_of_ble_eq_true rfl) hlo⟩ rfl (Nat.le_of_ble_eq_true rfl) (fun a r hr => mX0_way w (Nat.le_refl 2) (Nat.le_refl 33) a x405_60 x410_61 h r hr) (fun r411_62 => ?_)
      refine tr_aload_n C 415 rfl dL_law_414 2 rfl 2 rfl ?_
      refine tr_aload_n C 416 rfl dL_law_415 0 rfl 0 rfl ?_
      refine tr_iload_n C 417 rfl dL_law_416 3 rfl 3 rfl ?_
      refine tr_iconst C 418 rfl dL_law_417 (v := 1) (by decide) ?_
      refine tr_iadd C 419 rfl dL_law_418 ?_
      refine tr_spld C SX 420 rfl dL_law_419 (fun x419_64 => ?_)
      refine tr_aload_n C 421 rfl dL_law_420 0 rfl 0 rfl ?_
      refine tr_iload_n C 422 rfl dL_law_421 3 rfl 3 rfl ?_
      refine tr_iconst C 423 rfl dL_law_422 (v := 2) (by decide) ?_
      refine tr_iadd C 424 rfl dL_law_423 ?_
      refine tr_spld C SX 425 rfl dL_law_424 (fun x424_65 => ?_)
      refine tr_callVI (f := fun a => fX3_way a x419_64 x424_65 r411_62.2) (x := v2) (n := 2) (As := [.inl x419_64, .inl x424_65]) (rest := [.int r411_62.1]) (fr2 := 3) (lo2 := 58) C Rm 428 rfl dL_law_425 (lw_V q1838 q1839 q1840 q162 q1841) (kX3 w) (by decide +kernel) rfl ⟨Nat.le_trans (Nat.le_of_ble_eq_true rfl) hfr, Nat.le_trans (Nat.le_of_ble_eq_true rfl) hlo⟩ rfl (Nat.le_of_ble_eq_true rfl) (fun a r hr => mX3_way w (Nat.le_refl 3) (Nat.le_refl 58) a x419_64 x424_65 r411_62.2 r hr) (fun r425_66 => ?_)
      refine tr_icmp_eq C 1263 431 rfl dL_law_428 (by decide) ?_ ?_
      · exact tL_law_L1263 w C Rm E n0 xs SX hfr hlo v1 v2 v3 r425_66.2
      · refine tr_xr ?_
        refine tr_iconst C 432 rfl dL_law_431 (v := 0) (by decide) ?_
        exact tr_lawret C E dL_law_432
    refine tr_case (v := 9) (by decide) ?_ ?_
    · refine tr_aload_n C 434 rfl dL_law_433 1 rfl 1 rfl ?_
      refine tr_aload_n C 435 rfl dL_law_434 0 rfl 0 rfl ?_
      refine tr_iload_n C 436 rfl dL_law_435 3 rfl 3 rfl ?_
      refine tr_iconst C 437 rfl dL_law_436 (v := 1) (by decide) ?_
      refine tr_iadd C 438 rfl dL_law_437 ?_
      refine tr_spld C SX 439 rfl dL_law_438 (fun x438_68 => ?_)
      refine tr_aload_n C 440 rfl dL_law_439 0 rfl 0 rfl ?_
      refine tr_iload_n C 441 rfl dL_law_440 3 rfl 3 rfl ?_
      refine tr_iconst C 442 rfl dL_law_441 (v := 2) (by decide) ?_
      refine tr_iadd C 443 rfl dL_law_442 ?_
      refine tr_spld C SX 444 rfl dL_law_443 (fun x443_69 => ?_)
      refine tr_callVI (f := fun a => fX0_so a x438_68 x443_69 h) (x := v1) (n := 2) (As := [.inl x438_68, .inl x443_69]) (rest := []) (fr2 := 3) (lo2 := 53) C Rm 447 rfl dL_law_444 (lw_V q998 q999 q1000 q156 q1001) (kX0 w) (by decide +kernel) rfl ⟨Nat.le_trans (Nat.le_of_ble_eq_true rfl) hfr, Nat.le_trans (Nat.le_of_ble_eq_true rfl) hlo⟩ rfl (Nat.le_of_ble_eq_true rfl) (fun a r hr => mX0_so w (Nat.le_refl 3) (Nat.le_refl 53) a x438_68 x443_69 h r hr) (fun r444_70 => ?_)
      refine tr_aload_n C 448 rfl dL_law_447 2 rfl 2 rfl ?_
      refine tr_aload_n C 449 rfl dL_law_448 0 rfl 0 rfl ?_
      refine tr_iload_n C 450 rfl dL_law_449 3 rfl 3 rfl ?_
      refine tr_iconst C 451 rfl dL_law_450 (v := 1) (by decide) ?_
      refine tr_iadd C 452 rfl dL_law_451 ?_
      refine tr_spld C SX 453 rfl dL_law_452 (fun x452_72 => ?_)
      refine tr_aload_n C 454 rfl dL_law_453 0 rfl 0 rfl ?_
      refine tr_iload_n C 455 rfl dL_law_454 3 rfl 3 rfl ?_
      refine tr_iconst C 456 rfl dL_law_455 (v := 2) (by decide) ?_
      refine tr_iadd C 457 rfl dL_law_456 ?_
      refine tr_spld C SX 458 rfl dL_law_457 (fun x457_73 => ?_)
      refine tr_callVI (f := fun a => fX3_so a x452_72 x457_73 r444_70.2) (x := v2) (n := 2) (As := [.inl x452_72, .inl x457_73]) (rest := [.int r444_70.1]) (fr2 := 3) (lo2 := 58) C Rm 461 rfl dL_law_458 (lw_V q1851 q1852 q1853 q162 q1854) (kX3 w) (by decide +kernel) rfl ⟨Nat.le_trans (Nat.le_of_ble_eq_true rfl) hfr, Nat.le_trans (Nat.le_of_ble_eq_true rfl) hlo⟩ rfl (Nat.le_of_ble_eq_true rfl) (fun a r hr => mX3_so w (Nat.le_refl 3) (Nat.le_refl 58) a x452_72 x457_73 r444_70.2 r hr) (fun r458_74 => ?_)
      refine tr_icmp_eq C 1263 464 rfl dL_law_461 (by decide) ?_ ?_
      · exact tL_law_L1263 w C Rm E n0 xs SX hfr hlo v1 v2 v3 r458_74.2
      · refine tr_xr ?_
        refine tr_iconst C 465 rfl dL_law_464 (v := 0) (by decide) ?_
        exact tr_lawret C E dL_law_465
    refine tr_case (v := 10) (by decide) ?_ ?_
    · refine tr_aload_n C 467 rfl dL_law_466 1 rfl 1 rfl ?_
      refine tr_aload_n C 468 rfl dL_law_467 0 rfl 0 rfl ?_
      refine tr_iload_n C 469 rfl dL_law_468 3 rfl 3 rfl ?_
      refine tr_iconst C 470 rfl dL_law_469 (v := 1) (by decide) ?_
      refine tr_iadd C 471 rfl dL_law_470 ?_
      refine tr_spld C SX 472 rfl dL_law_471 (fun x471_76 => ?_)
      refine tr_callVI (f := fun a => fX0_isTrue a x471_76 h) (x := v1) (n := 1) (As := [.inl x471_76]) (rest := []) (fr2 := 3) (lo2 := 54) C Rm 475 rfl dL_law_472 (lw_V q1015 q1016 q1017 q156 q1018) (kX0 w) (by decide +kernel) rfl ⟨Nat.le_trans (Nat.le_of_ble_eq_true rfl) hfr, Nat.le_trans (Nat.le_of_ble_eq_true rfl) hlo⟩ rfl (Nat.le_of_ble_eq_true rfl) (fun a r hr => mX0_isTrue w (Nat.le_refl 3) (Nat.le_refl 54) a x471_76 h r hr) (fun r472_77 => ?_)
      refine tr_aload_n C 476 rfl dL_law_475 2 rfl 2 rfl ?_
      refine tr_aload_n C 477 rfl dL_law_476 0 rfl 0 rfl ?_
      refine tr_iload_n C 478 rfl dL_law_477 3 rfl 3 rfl ?_
      refine tr_iconst C 479 rfl dL_law_478 (v := 1) (by decide) ?_
      refine tr_iadd C 480 rfl dL_law_479 ?_
      refine tr_spld C SX 481 rfl dL_law_480 (fun x480_79 => ?_)
      refine tr_callVI (f := fun a => fX3_isTrue a x480_79 r472_77.2) (x := v2) (n := 1) (As := [.inl x480_79]) (rest := [.int r472_77.1]) (fr2 := 3) (lo2 := 58) C Rm 484 rfl dL_law_481 (lw_V q1871 q1872 q1873 q162 q1874) (kX3 w) (by decide +kernel) rfl ⟨Nat.le_trans (Nat.le_of_ble_eq_true rfl) hfr, Nat.le_trans (Nat.le_of_ble_eq_true rfl) hlo⟩ rfl (Nat.le_of_ble_eq_true rfl) (fun a r hr => mX3_isTrue w (Nat.le_refl 3) (Nat.le_refl 58) a x480_79 r472_77.2 r hr) (fun r481_80 => ?_)
      refine tr_icmp_eq C 1263 487 rfl dL_law_484 (by decide) ?_ ?_
      · exact tL_law_L1263 w C Rm E n0 xs SX hfr hlo v1 v2 v3 r481_80.2
      · refine tr_xr ?_
        refine tr_iconst C 488 rfl dL_law_487 (v := 0) (by decide) ?_
        exact tr_lawret C E dL_law_488
    refine tr_case (v := 11) (by decide) ?_ ?_
    · refine tr_aload_n C 490 rfl dL_law_489 1 rfl 1 rfl ?_
      refine tr_aload_n C 491 rfl dL_law_490 0 rfl 0 rfl ?_
      refine tr_iload_n C 492 rfl dL_law_491 3 rfl 3 rfl ?_
      refine tr_iconst C 493 rfl dL_law_492 (v := 1) (by decide) ?_
      refine tr_iadd C 494 rfl dL_law_493 ?_
      refine tr_spld C SX 495 rfl dL_law_494 (fun x494_82 => ?_)
      refine tr_aload_n C 496 rfl dL_law_495 0 rfl 0 rfl ?_
      refine tr_iload_n C 497 rfl dL_law_496 3 rfl 3 rfl ?_
      refine tr_iconst C 498 rfl dL_law_497 (v := 2) (by decide) ?_
      refine tr_iadd C 499 rfl dL_law_498 ?_
      refine tr_spld C SX 500 rfl dL_law_499 (fun x499_83 => ?_)
      refine tr_callVI (f := fun a => fX0_knows a x494_82 x499_83 h) (x := v1) (n := 2) (As := [.inl x494_82, .inl x499_83]) (rest := []) (fr2 := 3) (lo2 := 54) C Rm 503 rfl dL_law_500 (lw_V q1023 q1024 q1025 q156 q1026) (kX0 w) (by decide +kernel) rfl ⟨Nat.le_trans (Nat.le_of_ble_eq_true rfl) hfr, Nat.le_trans (Nat.le_of_ble_eq_true rfl) hlo⟩ rfl (Nat.le_of_ble_eq_true rfl) (fun a r hr => mX0_knows w (Nat.le_refl 3) (Nat.le_refl 54) a x494_82 x499_83 h r hr) (fun r500_84 => ?_)
      refine tr_aload_n C 504 rfl dL_law_503 2 rfl 2 rfl ?_
      refine tr_aload_n C 505 rfl dL_law_504 0 rfl 0 rfl ?_
      refine tr_iload_n C 506 rfl dL_law_505 3 rfl 3 rfl ?_
      refine tr_iconst C 507 rfl dL_law_506 (v := 1) (by decide) ?_
      refine tr_iadd C 508 rfl dL_law_507 ?_
      refine tr_spld C SX 509 rfl dL_law_508 (fun x508_86 => ?_)
      refine tr_aload_n C 510 rfl dL_law_509 0 rfl 0 rfl ?_
      refine tr_iload_n C 511 rfl dL_law_510 3 rfl 3 rfl ?_
      refine tr_iconst C 512 rfl dL_law_511 (v := 2) (by decide) ?_
      refine tr_iadd C 513 rfl dL_law_512 ?_
      refine tr_spld C SX 514 rfl dL_law_513 (fun x513_87 => ?_)
      refine tr_callVI (f := fun a => fX3_knows a x508_86 x513_87 r500_84.2) (x := v2) (n := 2) (As := [.inl x508_86, .inl x513_87]) (rest := [.int r500_84.1]) (fr2 := 4) (lo2 := 79) C Rm 517 rfl dL_law_514 (lw_V q1875 q1876 q1877 q162 q1878) (kX3 w) (by decide +kernel) rfl ⟨Nat.le_trans (Nat.le_of_ble_eq_true rfl) hfr, Nat.le_trans (Nat.le_of_ble_eq_true rfl) hlo⟩ rfl (Nat.le_of_ble_eq_true rfl) (fun a r hr => mX3_knows w (Nat.le_refl 4) (Nat.le_refl 79) a x508_86 x513_87 r500_84.2 r hr) (fun r514_88 => ?_)
      refine tr_icmp_eq C 1263 520 rfl dL_law_517 (by decide) ?_ ?_
      · exact tL_law_L1263 w C Rm E n0 xs SX hfr hlo v1 v2 v3 r514_88.2
      · refine tr_xr ?_
        refine tr_iconst C 521 rfl dL_law_520 (v := 0) (by decide) ?_
        exact tr_lawret C E dL_law_521
    refine tr_case (v := 12) (by decide) ?_ ?_
    · refine tr_aload_n C 523 rfl dL_law_522 1 rfl 1 rfl ?_
      refine tr_aload_n C 524 rfl dL_law_523 0 rfl 0 rfl ?_
      refine tr_iload_n C 525 rfl dL_law_524 3 rfl 3 rfl ?_
      refine tr_iconst C 526 rfl dL_law_525 (v := 1) (by decide) ?_
      refine tr_iadd C 527 rfl dL_law_526 ?_
      refine tr_spld C SX 528 rfl dL_law_527 (fun x527_90 => ?_)
      refine tr_aload_n C 529 rfl dL_law_528 0 rfl 0 rfl ?_
      refine tr_iload_n C 530 rfl dL_law_529 3 rfl 3 rfl ?_
      refine tr_iconst C 531 rfl dL_law_530 (v := 2) (by decide) ?_
      refine tr_iadd C 532 rfl dL_law_531 ?_
      refine tr_spld C SX 533 rfl dL_law_532 (fun x532_91 => ?_)
      refine tr_callVI (f := fun a => fX0_possible a x527_90 x532_91 h) (x := v1) (n := 2) (As := [.inl x527_90, .inl x532_91]) (rest := []) (fr2 := 3) (lo2 := 53) C Rm 536 rfl dL_law_533 (lw_V q1032 q1033 q1034 q156 q1035) (kX0 w) (by decide +kernel) rfl ⟨Nat.le_trans (Nat.le_of_ble_eq_true rfl) hfr, Nat.le_trans (Nat.le_of_ble_eq_true rfl) hlo⟩ rfl (Nat.le_of_ble_eq_true rfl) (fun a r hr => mX0_possible w (Nat.le_refl 3) (Nat.le_refl 53) a x527_90 x532_91 h r hr) (fun r533_92 => ?_)
      refine tr_aload_n C 537 rfl dL_law_536 2 rfl 2 rfl ?_
      refine tr_aload_n C 538 rfl dL_law_537 0 rfl 0 rfl ?_
      refine tr_iload_n C 539 rfl dL_law_538 3 rfl 3 rfl ?_
      refine tr_iconst C 540 rfl dL_law_539 (v := 1) (by decide) ?_
      refine tr_iadd C 541 rfl dL_law_540 ?_
      refine tr_spld C SX 542 rfl dL_law_541 (fun x541_94 => ?_)
      refine tr_aload_n C 543 rfl dL_law_542 0 rfl 0 rfl ?_
      refine tr_iload_n C 544 rfl dL_law_543 3 rfl 3 rfl ?_
      refine tr_iconst C 545 rfl dL_law_544 (v := 2) (by decide) ?_
      refine tr_iadd C 546 rfl dL_law_545 ?_
      refine tr_spld C SX 547 rfl dL_law_546 (fun x546_95 => ?_)
      refine tr_callVI (f := fun a => fX3_possible a x541_94 x546_95 r533_92.2) (x := v2) (n := 2) (As := [.inl x541_94, .inl x546_95]) (rest := [.int r533_92.1]) (fr2 := 4) (lo2 := 79) C Rm 550 rfl dL_law_547 (lw_V q1891 q1892 q1893 q162 q1894) (kX3 w) (by decide +kernel) rfl ⟨Nat.le_trans (Nat.le_of_ble_eq_true rfl) hfr, Nat.le_trans (Nat.le_of_ble_eq_true rfl) hlo⟩ rfl (Nat.le_of_ble_eq_true rfl) (fun a r hr => mX3_possible w (Nat.le_refl 4) (Nat.le_refl 79) a x541_94 x546_95 r533_92.2 r hr) (fun r547_96 => ?_)
      refine tr_icmp_eq C 1263 553 rfl dL_law_550 (by decide) ?_ ?_
      · exact tL_law_L1263 w C Rm E n0 xs SX hfr hlo v1 v2 v3 r547_96.2
      · refine tr_xr ?_
        refine tr_iconst C 554 rfl dL_law_553 (v := 0) (by decide) ?_
        exact tr_lawret C E dL_law_554
    refine tr_case (v := 13) (by decide) ?_ ?_
    · refine tr_aload_n C 556 rfl dL_law_555 1 rfl 1 rfl ?_
      refine tr_aload_n C 557 rfl dL_law_556 0 rfl 0 rfl ?_
      refine tr_iload_n C 558 rfl dL_law_557 3 rfl 3 rfl ?_
      refine tr_iconst C 559 rfl dL_law_558 (v := 1) (by decide) ?_
      refine tr_iadd C 560 rfl dL_law_559 ?_
      refine tr_spld C SX 561 rfl dL_law_560 (fun x560_98 => ?_)
      refine tr_callVI (f := fun a => fX0_gain a x560_98 h) (x := v1) (n := 1) (As := [.inl x560_98]) (rest := []) (fr2 := 3) (lo2 := 57) C Rm 564 rfl dL_law_561 (lw_V q1037 q1038 q1039 q156 q1040) (kX0 w) (by decide +kernel) rfl ⟨Nat.le_trans (Nat.le_of_ble_eq_true rfl) hfr, Nat.le_trans (Nat.le_of_ble_eq_true rfl) hlo⟩ rfl (Nat.le_of_ble_eq_true rfl) (fun a r hr => mX0_gain w (Nat.le_refl 3) (Nat.le_refl 57) a x560_98 h r hr) (fun r561_99 => ?_)
      refine tr_aload_n C 565 rfl dL_law_564 2 rfl 2 rfl ?_
      refine tr_aload_n C 566 rfl dL_law_565 0 rfl 0 rfl ?_
      refine tr_iload_n C 567 rfl dL_law_566 3 rfl 3 rfl ?_
      refine tr_iconst C 568 rfl dL_law_567 (v := 1) (by decide) ?_
      refine tr_iadd C 569 rfl dL_law_568 ?_
      refine tr_spld C SX 570 rfl dL_law_569 (fun x569_101 => ?_)
      refine tr_callVI (f := fun a => fX3_gain a x569_101 r561_99.2) (x := v2) (n := 1) (As := [.inl x569_101]) (rest := [.int r561_99.1]) (fr2 := 3) (lo2 := 58) C Rm 573 rfl dL_law_570 (lw_V q1895 q1896 q1897 q162 q1898) (kX3 w) (by decide +kernel) rfl ⟨Nat.le_trans (Nat.le_of_ble_eq_true rfl) hfr, Nat.le_trans (Nat.le_of_ble_eq_true rfl) hlo⟩ rfl (Nat.le_of_ble_eq_true rfl) (fun a r hr => mX3_gain w (Nat.le_refl 3) (Nat.le_refl 58) a x569_101 r561_99.2 r hr) (fun r570_102 => ?_)
      refine tr_icmp_eq C 1263 576 rfl dL_law_573 (by decide) ?_ ?_
      · exact tL_law_L1263 w C Rm E n0 xs SX hfr hlo v1 v2 v3 r570_102.2
      · refine tr_xr ?_
        refine tr_iconst C 577 rfl dL_law_576 (v := 0) (by decide) ?_
        exact tr_lawret C E dL_law_577
    refine tr_case (v := 14) (by decide) ?_ ?_
    · refine tr_aload_n C 579 rfl dL_law_578 1 rfl 1 rfl ?_
      refine tr_aload_n C 580 rfl dL_law_579 0 rfl 0 rfl ?_
      refine tr_iload_n C 581 rfl dL_law_580 3 rfl 3 rfl ?_
      refine tr_iconst C 582 rfl dL_law_581 (v := 1) (by decide) ?_
      refine tr_iadd C 583 rfl dL_law_582 ?_
      refine tr_spld C SX 584 rfl dL_law_583 (fun x583_104 => ?_)
      refine tr_callVI (f := fun a => fX0_shown a x583_104 h) (x := v1) (n := 1) (As := [.inl x583_104]) (rest := []) (fr2 := 3) (lo2 := 54) C Rm 587 rfl dL_law_584 (lw_V q1046 q1047 q1048 q156 q1049) (kX0 w) (by decide +kernel) rfl ⟨Nat.le_trans (Nat.le_of_ble_eq_true rfl) hfr, Nat.le_trans (Nat.le_of_ble_eq_true rfl) hlo⟩ rfl (Nat.le_of_ble_eq_true rfl) (fun a r hr => mX0_shown w (Nat.le_refl 3) (Nat.le_refl 54) a x583_104 h r hr) (fun r584_105 => ?_)
      refine tr_aload_n C 588 rfl dL_law_587 2 rfl 2 rfl ?_
      refine tr_aload_n C 589 rfl dL_law_588 0 rfl 0 rfl ?_
      refine tr_iload_n C 590 rfl dL_law_589 3 rfl 3 rfl ?_
      refine tr_iconst C 591 rfl dL_law_590 (v := 1) (by decide) ?_
      refine tr_iadd C 592 rfl dL_law_591 ?_
      refine tr_spld C SX 593 rfl dL_law_592 (fun x592_107 => ?_)
      refine tr_callVI (f := fun a => fX3_shown a x592_107 r584_105.2) (x := v2) (n := 1) (As := [.inl x592_107]) (rest := [.int r584_105.1]) (fr2 := 3) (lo2 := 58) C Rm 596 rfl dL_law_593 (lw_V q1903 q1904 q1905 q162 q1906) (kX3 w) (by decide +kernel) rfl ⟨Nat.le_trans (Nat.le_of_ble_eq_true rfl) hfr, Nat.le_trans (Nat.le_of_ble_eq_true rfl) hlo⟩ rfl (Nat.le_of_ble_eq_true rfl) (fun a r hr => mX3_shown w (Nat.le_refl 3) (Nat.le_refl 58) a x592_107 r584_105.2 r hr) (fun r593_108 => ?_)
      refine tr_icmp_eq C 1263 599 rfl dL_law_596 (by decide) ?_ ?_
      · exact tL_law_L1263 w C Rm E n0 xs SX hfr hlo v1 v2 v3 r593_108.2
      · refine tr_xr ?_
        refine tr_iconst C 600 rfl dL_law_599 (v := 0) (by decide) ?_
        exact tr_lawret C E dL_law_600
    refine tr_case (v := 15) (by decide) ?_ ?_
    · refine tr_aload_n C 602 rfl dL_law_601 1 rfl 1 rfl ?_
      refine tr_aload_n C 603 rfl dL_law_602 0 rfl 0 rfl ?_
      refine tr_iload_n C 604 rfl dL_law_603 3 rfl 3 rfl ?_
      refine tr_iconst C 605 rfl dL_law_604 (v := 1) (by decide) ?_
      refine tr_iadd C 606 rfl dL_law_605 ?_
      refine tr_spld C SX 607 rfl dL_law_606 (fun x606_110 => ?_)
      refine tr_aload_n C 608 rfl dL_law_607 0 rfl 0 rfl ?_
      refine tr_iload_n C 609 rfl dL_law_608 3 rfl 3 rfl ?_
      refine tr_iconst C 610 rfl dL_law_609 (v := 2) (by decide) ?_
      refine tr_iadd C 611 rfl dL_law_610 ?_
      refine tr_spld C SX 612 rfl dL_law_611 (fun x611_111 => ?_)
      refine tr_callVI (f := fun a => fX0_cross a x606_110 x611_111 h) (x := v1) (n := 2) (As := [.inl x606_110, .inl x611_111]) (rest := []) (fr2 := 4) (lo2 := 82) C Rm 615 rfl dL_law_612 (lw_V q1058 q1059 q1060 q156 q1061) (kX0 w) (by decide +kernel) rfl ⟨Nat.le_trans (Nat.le_of_ble_eq_true rfl) hfr, Nat.le_trans (Nat.le_of_ble_eq_true rfl) hlo⟩ rfl (Nat.le_of_ble_eq_true rfl) (fun a r hr => mX0_cross w (Nat.le_refl 4) (Nat.le_refl 82) a x606_110 x611_111 h r hr) (fun r612_112 => ?_)
      refine tr_aload_n C 616 rfl dL_law_615 2 rfl 2 rfl ?_
      refine tr_aload_n C 617 rfl dL_law_616 0 rfl 0 rfl ?_
      refine tr_iload_n C 618 rfl dL_law_617 3 rfl 3 rfl ?_
      refine tr_iconst C 619 rfl dL_law_618 (v := 1) (by decide) ?_
      refine tr_iadd C 620 rfl dL_law_619 ?_
      refine tr_spld C SX 621 rfl dL_law_620 (fun x620_114 => ?_)
      refine tr_aload_n C 622 rfl dL_law_621 0 rfl 0 rfl ?_
      refine tr_iload_n C 623 rfl dL_law_622 3 rfl 3 rfl ?_
      refine tr_iconst C 624 rfl dL_law_623 (v := 2) (by decide) ?_
      refine tr_iadd C 625 rfl dL_law_624 ?_
      refine tr_spld C SX 626 rfl dL_law_625 (fun x625_115 => ?_)
      refine tr_callVI (f := fun a => fX3_cross a x620_114 x625_115 r612_112.2) (x := v2) (n := 2) (As := [.inl x620_114, .inl x625_115]) (rest := [.int r612_112.1]) (fr2 := 5) (lo2 := 99) C Rm 629 rfl dL_law_626 (lw_V q1923 q1924 q1925 q162 q1926) (kX3 w) (by decide +kernel) rfl ⟨Nat.le_trans (Nat.le_of_ble_eq_true rfl) hfr, Nat.le_trans (Nat.le_of_ble_eq_true rfl) hlo⟩ rfl (Nat.le_of_ble_eq_true rfl) (fun a r hr => mX3_cross w (Nat.le_refl 5) (Nat.le_refl 99) a x620_114 x625_115 r612_112.2 r hr) (fun r626_116 => ?_)
      refine tr_icmp_eq C 1263 632 rfl dL_law_629 (by decide) ?_ ?_
      · exact tL_law_L1263 w C Rm E n0 xs SX hfr hlo v1 v2 v3 r626_116.2
      · refine tr_xr ?_
        refine tr_iconst C 633 rfl dL_law_632 (v := 0) (by decide) ?_
        exact tr_lawret C E dL_law_633
    refine tr_case (v := 16) (by decide) ?_ ?_
    · refine tr_aload_n C 635 rfl dL_law_634 1 rfl 1 rfl ?_
      refine tr_aload_n C 636 rfl dL_law_635 0 rfl 0 rfl ?_
      refine tr_iload_n C 637 rfl dL_law_636 3 rfl 3 rfl ?_
      refine tr_iconst C 638 rfl dL_law_637 (v := 1) (by decide) ?_
      refine tr_iadd C 639 rfl dL_law_638 ?_
      refine tr_spld C SX 640 rfl dL_law_639 (fun x639_118 => ?_)
      refine tr_aload_n C 641 rfl dL_law_640 0 rfl 0 rfl ?_
      refine tr_iload_n C 642 rfl dL_law_641 3 rfl 3 rfl ?_
      refine tr_iconst C 643 rfl dL_law_642 (v := 2) (by decide) ?_
      refine tr_iadd C 644 rfl dL_law_643 ?_
      refine tr_spld C SX 645 rfl dL_law_644 (fun x644_119 => ?_)
      refine tr_aload_n C 646 rfl dL_law_645 0 rfl 0 rfl ?_
      refine tr_iload_n C 647 rfl dL_law_646 3 rfl 3 rfl ?_
      refine tr_iconst C 648 rfl dL_law_647 (v := 3) (by decide) ?_
      refine tr_iadd C 649 rfl dL_law_648 ?_
      refine tr_spld C SX 650 rfl dL_law_649 (fun x649_120 => ?_)
      refine tr_callVI (f := fun a => fX0_tell a x639_118 x644_119 x649_120 h) (x := v1) (n := 3) (As := [.inl x639_118, .inl x644_119, .inl x649_120]) (rest := []) (fr2 := 3) (lo2 := 82) C Rm 653 rfl dL_law_650 (lw_V q1079 q1080 q1081 q156 q1082) (kX0 w) (by decide +kernel) rfl ⟨Nat.le_trans (Nat.le_of_ble_eq_true rfl) hfr, Nat.le_trans (Nat.le_of_ble_eq_true rfl) hlo⟩ rfl (Nat.le_of_ble_eq_true rfl) (fun a r hr => mX0_tell w (Nat.le_refl 3) (Nat.le_refl 82) a x639_118 x644_119 x649_120 h r hr) (fun r650_121 => ?_)
      refine tr_aload_n C 654 rfl dL_law_653 2 rfl 2 rfl ?_
      refine tr_aload_n C 655 rfl dL_law_654 0 rfl 0 rfl ?_
      refine tr_iload_n C 656 rfl dL_law_655 3 rfl 3 rfl ?_
      refine tr_iconst C 657 rfl dL_law_656 (v := 1) (by decide) ?_
      refine tr_iadd C 658 rfl dL_law_657 ?_
      refine tr_spld C SX 659 rfl dL_law_658 (fun x658_123 => ?_)
      refine tr_aload_n C 660 rfl dL_law_659 0 rfl 0 rfl ?_
      refine tr_iload_n C 661 rfl dL_law_660 3 rfl 3 rfl ?_
      refine tr_iconst C 662 rfl dL_law_661 (v := 2) (by decide) ?_
      refine tr_iadd C 663 rfl dL_law_662 ?_
      refine tr_spld C SX 664 rfl dL_law_663 (fun x663_124 => ?_)
      refine tr_aload_n C 665 rfl dL_law_664 0 rfl 0 rfl ?_
      refine tr_iload_n C 666 rfl dL_law_665 3 rfl 3 rfl ?_
      refine tr_iconst C 667 rfl dL_law_666 (v := 3) (by decide) ?_
      refine tr_iadd C 668 rfl dL_law_667 ?_
      refine tr_spld C SX 669 rfl dL_law_668 (fun x668_125 => ?_)
      refine tr_callVI (f := fun a => fX3_tell a x658_123 x663_124 x668_125 r650_121.2) (x := v2) (n := 3) (As := [.inl x658_123, .inl x663_124, .inl x668_125]) (rest := [.int r650_121.1]) (fr2 := 5) (lo2 := 99) C Rm 672 rfl dL_law_669 (lw_V q1939 q1940 q1941 q162 q1942) (kX3 w) (by decide +kernel) rfl ⟨Nat.le_trans (Nat.le_of_ble_eq_true rfl) hfr, Nat.le_trans (Nat.le_of_ble_eq_true rfl) hlo⟩ rfl (Nat.le_of_ble_eq_true rfl) (fun a r hr => mX3_tell w (Nat.le_refl 5) (Nat.le_refl 99) a x658_123 x663_124 x668_125 r650_121.2 r hr) (fun r669_126 => ?_)
      refine tr_icmp_eq C 1263 675 rfl dL_law_672 (by decide) ?_ ?_
      · exact tL_law_L1263 w C Rm E n0 xs SX hfr hlo v1 v2 v3 r669_126.2
      · refine tr_xr ?_
        refine tr_iconst C 676 rfl dL_law_675 (v := 0) (by decide) ?_
        exact tr_lawret C E dL_law_676
    refine tr_case (v := 17) (by decide) ?_ ?_
    · refine tr_aload_n C 678 rfl dL_law_677 1 rfl 1 rfl ?_
      refine tr_aload_n C 679 rfl dL_law_678 0 rfl 0 rfl ?_
      refine tr_iload_n C 680 rfl dL_law_679 3 rfl 3 rfl ?_
      refine tr_iconst C 681 rfl dL_law_680 (v := 1) (by decide) ?_
      refine tr_iadd C 682 rfl dL_law_681 ?_
      refine tr_spld C SX 683 rfl dL_law_682 (fun x682_128 => ?_)
      refine tr_aload_n C 684 rfl dL_law_683 0 rfl 0 rfl ?_
      refine tr_iload_n C 685 rfl dL_law_684 3 rfl 3 rfl ?_
      refine tr_iconst C 686 rfl dL_law_685 (v := 2) (by decide) ?_
      refine tr_iadd C 687 rfl dL_law_686 ?_
      refine tr_spld C SX 688 rfl dL_law_687 (fun x687_129 => ?_)
      refine tr_callVI (f := fun a => fX0_look a x682_128 x687_129 h) (x := v1) (n := 2) (As := [.inl x682_128, .inl x687_129]) (rest := []) (fr2 := 3) (lo2 := 82) C Rm 691 rfl dL_law_688 (lw_V q1083 q1084 q1085 q156 q1086) (kX0 w) (by decide +kernel) rfl ⟨Nat.le_trans (Nat.le_of_ble_eq_true rfl) hfr, Nat.le_trans (Nat.le_of_ble_eq_true rfl) hlo⟩ rfl (Nat.le_of_ble_eq_true rfl) (fun a r hr => mX0_look w (Nat.le_refl 3) (Nat.le_refl 82) a x682_128 x687_129 h r hr) (fun r688_130 => ?_)
      refine tr_aload_n C 692 rfl dL_law_691 2 rfl 2 rfl ?_
      refine tr_aload_n C 693 rfl dL_law_692 0 rfl 0 rfl ?_
      refine tr_iload_n C 694 rfl dL_law_693 3 rfl 3 rfl ?_
      refine tr_iconst C 695 rfl dL_law_694 (v := 1) (by decide) ?_
      refine tr_iadd C 696 rfl dL_law_695 ?_
      refine tr_spld C SX 697 rfl dL_law_696 (fun x696_132 => ?_)
      refine tr_aload_n C 698 rfl dL_law_697 0 rfl 0 rfl ?_
      refine tr_iload_n C 699 rfl dL_law_698 3 rfl 3 rfl ?_
      refine tr_iconst C 700 rfl dL_law_699 (v := 2) (by decide) ?_
      refine tr_iadd C 701 rfl dL_law_700 ?_
      refine tr_spld C SX 702 rfl dL_law_701 (fun x701_133 => ?_)
      refine tr_callVI (f := fun a => fX3_look a x696_132 x701_133 r688_130.2) (x := v2) (n := 2) (As := [.inl x696_132, .inl x701_133]) (rest := [.int r688_130.1]) (fr2 := 5) (lo2 := 99) C Rm 705 rfl dL_law_702 (lw_V q1943 q1944 q1945 q162 q1946) (kX3 w) (by decide +kernel) rfl ⟨Nat.le_trans (Nat.le_of_ble_eq_true rfl) hfr, Nat.le_trans (Nat.le_of_ble_eq_true rfl) hlo⟩ rfl (Nat.le_of_ble_eq_true rfl) (fun a r hr => mX3_look w (Nat.le_refl 5) (Nat.le_refl 99) a x696_132 x701_133 r688_130.2 r hr) (fun r702_134 => ?_)
      refine tr_icmp_eq C 1263 708 rfl dL_law_705 (by decide) ?_ ?_
      · exact tL_law_L1263 w C Rm E n0 xs SX hfr hlo v1 v2 v3 r702_134.2
      · refine tr_xr ?_
        refine tr_iconst C 709 rfl dL_law_708 (v := 0) (by decide) ?_
        exact tr_lawret C E dL_law_709
    refine tr_case (v := 18) (by decide) ?_ ?_
    · refine tr_aload_n C 711 rfl dL_law_710 1 rfl 1 rfl ?_
      refine tr_callVI (f := fun a => fX0_midnight a h) (x := v1) (n := 0) (As := []) (rest := []) (fr2 := 3) (lo2 := 82) C Rm 714 rfl dL_law_711 (lw_V q1088 q1089 q1090 q156 q1091) (kX0 w) (by decide +kernel) rfl ⟨Nat.le_trans (Nat.le_of_ble_eq_true rfl) hfr, Nat.le_trans (Nat.le_of_ble_eq_true rfl) hlo⟩ rfl (Nat.le_of_ble_eq_true rfl) (fun a r hr => mX0_midnight w (Nat.le_refl 3) (Nat.le_refl 82) a h r hr) (fun r711_136 => ?_)
      refine tr_aload_n C 715 rfl dL_law_714 2 rfl 2 rfl ?_
      refine tr_callVI (f := fun a => fX3_midnight a r711_136.2) (x := v2) (n := 0) (As := []) (rest := [.int r711_136.1]) (fr2 := 5) (lo2 := 100) C Rm 718 rfl dL_law_715 (lw_V q1951 q1952 q1953 q162 q1954) (kX3 w) (by decide +kernel) rfl ⟨Nat.le_trans (Nat.le_of_ble_eq_true rfl) hfr, Nat.le_trans (Nat.le_of_ble_eq_true rfl) hlo⟩ rfl (Nat.le_of_ble_eq_true rfl) (fun a r hr => mX3_midnight w (Nat.le_refl 5) (Nat.le_refl 100) a r711_136.2 r hr) (fun r715_138 => ?_)
      refine tr_icmp_eq C 1263 721 rfl dL_law_718 (by decide) ?_ ?_
      · exact tL_law_L1263 w C Rm E n0 xs SX hfr hlo v1 v2 v3 r715_138.2
      · refine tr_xr ?_
        refine tr_iconst C 722 rfl dL_law_721 (v := 0) (by decide) ?_
        exact tr_lawret C E dL_law_722
    refine tr_case (v := 19) (by decide) ?_ ?_
    · refine tr_aload_n C 724 rfl dL_law_723 1 rfl 1 rfl ?_
      refine tr_callVI (f := fun a => fX0_undo a h) (x := v1) (n := 0) (As := []) (rest := []) (fr2 := 2) (lo2 := 62) C Rm 727 rfl dL_law_724 (lw_V q1050 q1051 q1052 q156 q1053) (kX0 w) (by decide +kernel) rfl ⟨Nat.le_trans (Nat.le_of_ble_eq_true rfl) hfr, Nat.le_trans (Nat.le_of_ble_eq_true rfl) hlo⟩ rfl (Nat.le_of_ble_eq_true rfl) (fun a r hr => mX0_undo w (Nat.le_refl 2) (Nat.le_refl 62) a h r hr) (fun r724_140 => ?_)
      refine tr_aload_n C 728 rfl dL_law_727 2 rfl 2 rfl ?_
      refine tr_callVI (f := fun a => fX3_undo a r724_140.2) (x := v2) (n := 0) (As := []) (rest := [.int r724_140.1]) (fr2 := 4) (lo2 := 78) C Rm 731 rfl dL_law_728 (lw_V q1907 q1908 q1909 q162 q1910) (kX3 w) (by decide +kernel) rfl ⟨Nat.le_trans (Nat.le_of_ble_eq_true rfl) hfr, Nat.le_trans (Nat.le_of_ble_eq_true rfl) hlo⟩ rfl (Nat.le_of_ble_eq_true rfl) (fun a r hr => mX3_undo w (Nat.le_refl 4) (Nat.le_refl 78) a r724_140.2 r hr) (fun r728_142 => ?_)
      refine tr_icmp_eq C 1263 734 rfl dL_law_731 (by decide) ?_ ?_
      · exact tL_law_L1263 w C Rm E n0 xs SX hfr hlo v1 v2 v3 r728_142.2
      · refine tr_xr ?_
        refine tr_iconst C 735 rfl dL_law_734 (v := 0) (by decide) ?_
        exact tr_lawret C E dL_law_735
    refine tr_case (v := 20) (by decide) ?_ ?_
    · refine tr_aload_n C 737 rfl dL_law_736 1 rfl 1 rfl ?_
      refine tr_aload_n C 738 rfl dL_law_737 0 rfl 0 rfl ?_
      refine tr_iload_n C 739 rfl dL_law_738 3 rfl 3 rfl ?_
      refine tr_iconst C 740 rfl dL_law_739 (v := 1) (by decide) ?_
      refine tr_iadd C 741 rfl dL_law_740 ?_
      refine tr_spld C SX 742 rfl dL_law_741 (fun x741_144 => ?_)
      refine tr_aload_n C 743 rfl dL_law_742 0 rfl 0 rfl ?_
      refine tr_iload_n C 744 rfl dL_law_743 3 rfl 3 rfl ?_
      refine tr_iconst C 745 rfl dL_law_744 (v := 2) (by decide) ?_
      refine tr_iadd C 746 rfl dL_law_745 ?_
      refine tr_spld C SX 747 rfl dL_law_746 (fun x746_145 => ?_)
      refine tr_callVI (f := fun a => fX0_run a x741_144 x746_145 h) (x := v1) (n := 2) (As := [.inl x741_144, .inl x746_145]) (rest := []) (fr2 := 263) (lo2 := 6557) C Rm 750 rfl dL_law_747 (lw_V q1102 q1103 q1104 q156 q1105) (kX0 w) (by decide +kernel) rfl ⟨Nat.le_trans (Nat.le_of_ble_eq_true rfl) hfr, Nat.le_trans (Nat.le_of_ble_eq_true rfl) hlo⟩ rfl (Nat.le_of_ble_eq_true rfl) (fun a r hr => mX0_run w (Nat.le_refl 263) (Nat.le_refl 6557) a x741_144 x746_145 h r hr) (fun r747_146 => ?_)
      refine tr_aload_n C 751 rfl dL_law_750 2 rfl 2 rfl ?_
      refine tr_aload_n C 752 rfl dL_law_751 0 rfl 0 rfl ?_
      refine tr_iload_n C 753 rfl dL_law_752 3 rfl 3 rfl ?_
      refine tr_iconst C 754 rfl dL_law_753 (v := 1) (by decide) ?_
      refine tr_iadd C 755 rfl dL_law_754 ?_
      refine tr_spld C SX 756 rfl dL_law_755 (fun x755_148 => ?_)
      refine tr_aload_n C 757 rfl dL_law_756 0 rfl 0 rfl ?_
      refine tr_iload_n C 758 rfl dL_law_757 3 rfl 3 rfl ?_
      refine tr_iconst C 759 rfl dL_law_758 (v := 2) (by decide) ?_
      refine tr_iadd C 760 rfl dL_law_759 ?_
      refine tr_spld C SX 761 rfl dL_law_760 (fun x760_149 => ?_)
      refine tr_callVI (f := fun a => fX3_run a x755_148 x760_149 r747_146.2) (x := v2) (n := 2) (As := [.inl x755_148, .inl x760_149]) (rest := [.int r747_146.1]) (fr2 := 6) (lo2 := 133) C Rm 764 rfl dL_law_761 (lw_V q1963 q1964 q1965 q162 q1966) (kX3 w) (by decide +kernel) rfl ⟨Nat.le_trans (Nat.le_of_ble_eq_true rfl) hfr, Nat.le_trans (Nat.le_of_ble_eq_true rfl) hlo⟩ rfl (Nat.le_of_ble_eq_true rfl) (fun a r hr => mX3_run w (Nat.le_refl 6) (Nat.le_refl 133) a x755_148 x760_149 r747_146.2 r hr) (fun r761_150 => ?_)
      refine tr_icmp_eq C 1263 767 rfl dL_law_764 (by decide) ?_ ?_
      · exact tL_law_L1263 w C Rm E n0 xs SX hfr hlo v1 v2 v3 r761_150.2
      · refine tr_xr ?_
        refine tr_iconst C 768 rfl dL_law_767 (v := 0) (by decide) ?_
        exact tr_lawret C E dL_law_768
    refine tr_case (v := 21) (by decide) ?_ ?_
    · refine tr_aload_n C 770 rfl dL_law_769 1 rfl 1 rfl ?_
      refine tr_aload_n C 771 rfl dL_law_770 0 rfl 0 rfl ?_
      refine tr_iload_n C 772 rfl dL_law_771 3 rfl 3 rfl ?_
      refine tr_iconst C 773 rfl dL_law_772 (v := 1) (by decide) ?_
      refine tr_iadd C 774 rfl dL_law_773 ?_
      refine tr_spld C SX 775 rfl dL_law_774 (fun x774_152 => ?_)
      refine tr_aload_n C 776 rfl dL_law_775 0 rfl 0 rfl ?_
      refine tr_iload_n C 777 rfl dL_law_776 3 rfl 3 rfl ?_
      refine tr_iconst C 778 rfl dL_law_777 (v := 2) (by decide) ?_
      refine tr_iadd C 779 rfl dL_law_778 ?_
      refine tr_spld C SX 780 rfl dL_law_779 (fun x779_153 => ?_)
      refine tr_callVI (f := fun a => fX0_follows a x774_152 x779_153 h) (x := v1) (n := 2) (As := [.inl x774_152, .inl x779_153]) (rest := []) (fr2 := 4) (lo2 := 80) C Rm 783 rfl dL_law_780 (lw_V q1164 q1165 q1166 q156 q1167) (kX0 w) (by decide +kernel) rfl ⟨Nat.le_trans (Nat.le_of_ble_eq_true rfl) hfr, Nat.le_trans (Nat.le_of_ble_eq_true rfl) hlo⟩ rfl (Nat.le_of_ble_eq_true rfl) (fun a r hr => mX0_follows w (Nat.le_refl 4) (Nat.le_refl 80) a x774_152 x779_153 h r hr) (fun r780_154 => ?_)
      refine tr_aload_n C 784 rfl dL_law_783 2 rfl 2 rfl ?_
      refine tr_aload_n C 785 rfl dL_law_784 0 rfl 0 rfl ?_
      refine tr_iload_n C 786 rfl dL_law_785 3 rfl 3 rfl ?_
      refine tr_iconst C 787 rfl dL_law_786 (v := 1) (by decide) ?_
      refine tr_iadd C 788 rfl dL_law_787 ?_
      refine tr_spld C SX 789 rfl dL_law_788 (fun x788_156 => ?_)
      refine tr_aload_n C 790 rfl dL_law_789 0 rfl 0 rfl ?_
      refine tr_iload_n C 791 rfl dL_law_790 3 rfl 3 rfl ?_
      refine tr_iconst C 792 rfl dL_law_791 (v := 2) (by decide) ?_
      refine tr_iadd C 793 rfl dL_law_792 ?_
      refine tr_spld C SX 794 rfl dL_law_793 (fun x793_157 => ?_)
      refine tr_callVI (f := fun a => fX3_follows a x788_156 x793_157 r780_154.2) (x := v2) (n := 2) (As := [.inl x788_156, .inl x793_157]) (rest := [.int r780_154.1]) (fr2 := 4) (lo2 := 80) C Rm 797 rfl dL_law_794 (lw_V q1998 q1999 q2000 q162 q2001) (kX3 w) (by decide +kernel) rfl ⟨Nat.le_trans (Nat.le_of_ble_eq_true rfl) hfr, Nat.le_trans (Nat.le_of_ble_eq_true rfl) hlo⟩ rfl (Nat.le_of_ble_eq_true rfl) (fun a r hr => mX3_follows w (Nat.le_refl 4) (Nat.le_refl 80) a x788_156 x793_157 r780_154.2 r hr) (fun r794_158 => ?_)
      refine tr_icmp_eq C 1263 800 rfl dL_law_797 (by decide) ?_ ?_
      · exact tL_law_L1263 w C Rm E n0 xs SX hfr hlo v1 v2 v3 r794_158.2
      · refine tr_xr ?_
        refine tr_iconst C 801 rfl dL_law_800 (v := 0) (by decide) ?_
        exact tr_lawret C E dL_law_801
    refine tr_case (v := 22) (by decide) ?_ ?_
    · refine tr_aload_n C 803 rfl dL_law_802 1 rfl 1 rfl ?_
      refine tr_aload_n C 804 rfl dL_law_803 0 rfl 0 rfl ?_
      refine tr_iload_n C 805 rfl dL_law_804 3 rfl 3 rfl ?_
      refine tr_iconst C 806 rfl dL_law_805 (v := 1) (by decide) ?_
      refine tr_iadd C 807 rfl dL_law_806 ?_
      refine tr_spld C SX 808 rfl dL_law_807 (fun x807_160 => ?_)
      refine tr_aload_n C 809 rfl dL_law_808 0 rfl 0 rfl ?_
      refine tr_iload_n C 810 rfl dL_law_809 3 rfl 3 rfl ?_
      refine tr_iconst C 811 rfl dL_law_810 (v := 2) (by decide) ?_
      refine tr_iadd C 812 rfl dL_law_811 ?_
      refine tr_spld C SX 813 rfl dL_law_812 (fun x812_161 => ?_)
      refine tr_callVI (f := fun a => fX0_fewest a x807_160 x812_161 h) (x := v1) (n := 2) (As := [.inl x807_160, .inl x812_161]) (rest := []) (fr2 := 4) (lo2 := 80) C Rm 816 rfl dL_law_813 (lw_V q1180 q1181 q1182 q156 q1183) (kX0 w) (by decide +kernel) rfl ⟨Nat.le_trans (Nat.le_of_ble_eq_true rfl) hfr, Nat.le_trans (Nat.le_of_ble_eq_true rfl) hlo⟩ rfl (Nat.le_of_ble_eq_true rfl) (fun a r hr => mX0_fewest w (Nat.le_refl 4) (Nat.le_refl 80) a x807_160 x812_161 h r hr) (fun r813_162 => ?_)
      refine tr_aload_n C 817 rfl dL_law_816 2 rfl 2 rfl ?_
      refine tr_aload_n C 818 rfl dL_law_817 0 rfl 0 rfl ?_
      refine tr_iload_n C 819 rfl dL_law_818 3 rfl 3 rfl ?_
      refine tr_iconst C 820 rfl dL_law_819 (v := 1) (by decide) ?_
      refine tr_iadd C 821 rfl dL_law_820 ?_
      refine tr_spld C SX 822 rfl dL_law_821 (fun x821_164 => ?_)
      refine tr_aload_n C 823 rfl dL_law_822 0 rfl 0 rfl ?_
      refine tr_iload_n C 824 rfl dL_law_823 3 rfl 3 rfl ?_
      refine tr_iconst C 825 rfl dL_law_824 (v := 2) (by decide) ?_
      refine tr_iadd C 826 rfl dL_law_825 ?_
      refine tr_spld C SX 827 rfl dL_law_826 (fun x826_165 => ?_)
      refine tr_callVI (f := fun a => fX3_fewest a x821_164 x826_165 r813_162.2) (x := v2) (n := 2) (As := [.inl x821_164, .inl x826_165]) (rest := [.int r813_162.1]) (fr2 := 4) (lo2 := 80) C Rm 830 rfl dL_law_827 (lw_V q2010 q2011 q2012 q162 q2013) (kX3 w) (by decide +kernel) rfl ⟨Nat.le_trans (Nat.le_of_ble_eq_true rfl) hfr, Nat.le_trans (Nat.le_of_ble_eq_true rfl) hlo⟩ rfl (Nat.le_of_ble_eq_true rfl) (fun a r hr => mX3_fewest w (Nat.le_refl 4) (Nat.le_refl 80) a x821_164 x826_165 r813_162.2 r hr) (fun r827_166 => ?_)
      refine tr_icmp_eq C 1263 833 rfl dL_law_830 (by decide) ?_ ?_
      · exact tL_law_L1263 w C Rm E n0 xs SX hfr hlo v1 v2 v3 r827_166.2
      · refine tr_xr ?_
        refine tr_iconst C 834 rfl dL_law_833 (v := 0) (by decide) ?_
        exact tr_lawret C E dL_law_834
    refine tr_case (v := 23) (by decide) ?_ ?_
    · refine tr_aload_n C 836 rfl dL_law_835 1 rfl 1 rfl ?_
      refine tr_aload_n C 837 rfl dL_law_836 0 rfl 0 rfl ?_
      refine tr_iload_n C 838 rfl dL_law_837 3 rfl 3 rfl ?_
      refine tr_iconst C 839 rfl dL_law_838 (v := 1) (by decide) ?_
      refine tr_iadd C 840 rfl dL_law_839 ?_
      refine tr_spld C SX 841 rfl dL_law_840 (fun x840_168 => ?_)
      refine tr_aload_n C 842 rfl dL_law_841 0 rfl 0 rfl ?_
      refine tr_iload_n C 843 rfl dL_law_842 3 rfl 3 rfl ?_
      refine tr_iconst C 844 rfl dL_law_843 (v := 2) (by decide) ?_
      refine tr_iadd C 845 rfl dL_law_844 ?_
      refine tr_spld C SX 846 rfl dL_law_845 (fun x845_169 => ?_)
      refine tr_callVI (f := fun a => fX0_opposite a x840_168 x845_169 h) (x := v1) (n := 2) (As := [.inl x840_168, .inl x845_169]) (rest := []) (fr2 := 3) (lo2 := 54) C Rm 849 rfl dL_law_846 (lw_V q1190 q1191 q1192 q156 q1193) (kX0 w) (by decide +kernel) rfl ⟨Nat.le_trans (Nat.le_of_ble_eq_true rfl) hfr, Nat.le_trans (Nat.le_of_ble_eq_true rfl) hlo⟩ rfl (Nat.le_of_ble_eq_true rfl) (fun a r hr => mX0_opposite w (Nat.le_refl 3) (Nat.le_refl 54) a x840_168 x845_169 h r hr) (fun r846_170 => ?_)
      refine tr_aload_n C 850 rfl dL_law_849 2 rfl 2 rfl ?_
      refine tr_aload_n C 851 rfl dL_law_850 0 rfl 0 rfl ?_
      refine tr_iload_n C 852 rfl dL_law_851 3 rfl 3 rfl ?_
      refine tr_iconst C 853 rfl dL_law_852 (v := 1) (by decide) ?_
      refine tr_iadd C 854 rfl dL_law_853 ?_
      refine tr_spld C SX 855 rfl dL_law_854 (fun x854_172 => ?_)
      refine tr_aload_n C 856 rfl dL_law_855 0 rfl 0 rfl ?_
      refine tr_iload_n C 857 rfl dL_law_856 3 rfl 3 rfl ?_
      refine tr_iconst C 858 rfl dL_law_857 (v := 2) (by decide) ?_
      refine tr_iadd C 859 rfl dL_law_858 ?_
      refine tr_spld C SX 860 rfl dL_law_859 (fun x859_173 => ?_)
      refine tr_callVI (f := fun a => fX3_opposite a x854_172 x859_173 r846_170.2) (x := v2) (n := 2) (As := [.inl x854_172, .inl x859_173]) (rest := [.int r846_170.1]) (fr2 := 3) (lo2 := 58) C Rm 863 rfl dL_law_860 (lw_V q2014 q2015 q2016 q162 q2017) (kX3 w) (by decide +kernel) rfl ⟨Nat.le_trans (Nat.le_of_ble_eq_true rfl) hfr, Nat.le_trans (Nat.le_of_ble_eq_true rfl) hlo⟩ rfl (Nat.le_of_ble_eq_true rfl) (fun a r hr => mX3_opposite w (Nat.le_refl 3) (Nat.le_refl 58) a x854_172 x859_173 r846_170.2 r hr) (fun r860_174 => ?_)
      refine tr_icmp_eq C 1263 866 rfl dL_law_863 (by decide) ?_ ?_
      · exact tL_law_L1263 w C Rm E n0 xs SX hfr hlo v1 v2 v3 r860_174.2
      · refine tr_xr ?_
        refine tr_iconst C 867 rfl dL_law_866 (v := 0) (by decide) ?_
        exact tr_lawret C E dL_law_867
    refine tr_case (v := 24) (by decide) ?_ ?_
    · refine tr_aload_n C 869 rfl dL_law_868 1 rfl 1 rfl ?_
      refine tr_aload_n C 870 rfl dL_law_869 0 rfl 0 rfl ?_
      refine tr_iload_n C 871 rfl dL_law_870 3 rfl 3 rfl ?_
      refine tr_iconst C 872 rfl dL_law_871 (v := 1) (by decide) ?_
      refine tr_iadd C 873 rfl dL_law_872 ?_
      refine tr_spld C SX 874 rfl dL_law_873 (fun x873_176 => ?_)
      refine tr_aload_n C 875 rfl dL_law_874 0 rfl 0 rfl ?_
      refine tr_iload_n C 876 rfl dL_law_875 3 rfl 3 rfl ?_
      refine tr_iconst C 877 rfl dL_law_876 (v := 2) (by decide) ?_
      refine tr_iadd C 878 rfl dL_law_877 ?_
      refine tr_spld C SX 879 rfl dL_law_878 (fun x878_177 => ?_)
      refine tr_callVI (f := fun a => fX0_when a x873_176 x878_177 h) (x := v1) (n := 2) (As := [.inl x873_176, .inl x878_177]) (rest := []) (fr2 := 3) (lo2 := 54) C Rm 882 rfl dL_law_879 (lw_V q1194 q1195 q1196 q156 q1197) (kX0 w) (by decide +kernel) rfl ⟨Nat.le_trans (Nat.le_of_ble_eq_true rfl) hfr, Nat.le_trans (Nat.le_of_ble_eq_true rfl) hlo⟩ rfl (Nat.le_of_ble_eq_true rfl) (fun a r hr => mX0_when w (Nat.le_refl 3) (Nat.le_refl 54) a x873_176 x878_177 h r hr) (fun r879_178 => ?_)
      refine tr_aload_n C 883 rfl dL_law_882 2 rfl 2 rfl ?_
      refine tr_aload_n C 884 rfl dL_law_883 0 rfl 0 rfl ?_
      refine tr_iload_n C 885 rfl dL_law_884 3 rfl 3 rfl ?_
      refine tr_iconst C 886 rfl dL_law_885 (v := 1) (by decide) ?_
      refine tr_iadd C 887 rfl dL_law_886 ?_
      refine tr_spld C SX 888 rfl dL_law_887 (fun x887_180 => ?_)
      refine tr_aload_n C 889 rfl dL_law_888 0 rfl 0 rfl ?_
      refine tr_iload_n C 890 rfl dL_law_889 3 rfl 3 rfl ?_
      refine tr_iconst C 891 rfl dL_law_890 (v := 2) (by decide) ?_
      refine tr_iadd C 892 rfl dL_law_891 ?_
      refine tr_spld C SX 893 rfl dL_law_892 (fun x892_181 => ?_)
      refine tr_callVI (f := fun a => fX3_when a x887_180 x892_181 r879_178.2) (x := v2) (n := 2) (As := [.inl x887_180, .inl x892_181]) (rest := [.int r879_178.1]) (fr2 := 3) (lo2 := 58) C Rm 896 rfl dL_law_893 (lw_V q2018 q2019 q2020 q162 q2021) (kX3 w) (by decide +kernel) rfl ⟨Nat.le_trans (Nat.le_of_ble_eq_true rfl) hfr, Nat.le_trans (Nat.le_of_ble_eq_true rfl) hlo⟩ rfl (Nat.le_of_ble_eq_true rfl) (fun a r hr => mX3_when w (Nat.le_refl 3) (Nat.le_refl 58) a x887_180 x892_181 r879_178.2 r hr) (fun r893_182 => ?_)
      refine tr_icmp_eq C 1263 899 rfl dL_law_896 (by decide) ?_ ?_
      · exact tL_law_L1263 w C Rm E n0 xs SX hfr hlo v1 v2 v3 r893_182.2
      · refine tr_xr ?_
        refine tr_iconst C 900 rfl dL_law_899 (v := 0) (by decide) ?_
        exact tr_lawret C E dL_law_900
    refine tr_case (v := 25) (by decide) ?_ ?_
    · refine tr_aload_n C 902 rfl dL_law_901 1 rfl 1 rfl ?_
      refine tr_aload_n C 903 rfl dL_law_902 0 rfl 0 rfl ?_
      refine tr_iload_n C 904 rfl dL_law_903 3 rfl 3 rfl ?_
      refine tr_iconst C 905 rfl dL_law_904 (v := 1) (by decide) ?_
      refine tr_iadd C 906 rfl dL_law_905 ?_
      refine tr_spld C SX 907 rfl dL_law_906 (fun x906_184 => ?_)
      refine tr_aload_n C 908 rfl dL_law_907 0 rfl 0 rfl ?_
      refine tr_iload_n C 909 rfl dL_law_908 3 rfl 3 rfl ?_
      refine tr_iconst C 910 rfl dL_law_909 (v := 2) (by decide) ?_
      refine tr_iadd C 911 rfl dL_law_910 ?_
      refine tr_spld C SX 912 rfl dL_law_911 (fun x911_185 => ?_)
      refine tr_callVI (f := fun a => fX0_least a x906_184 x911_185 h) (x := v1) (n := 2) (As := [.inl x906_184, .inl x911_185]) (rest := []) (fr2 := 6) (lo2 := 126) C Rm 915 rfl dL_law_912 (lw_V q1202 q1203 q1204 q156 q1205) (kX0 w) (by decide +kernel) rfl ⟨Nat.le_trans (Nat.le_of_ble_eq_true rfl) hfr, Nat.le_trans (Nat.le_of_ble_eq_true rfl) hlo⟩ rfl (Nat.le_of_ble_eq_true rfl) (fun a r hr => mX0_least w (Nat.le_refl 6) (Nat.le_refl 126) a x906_184 x911_185 h r hr) (fun r912_186 => ?_)
      refine tr_aload_n C 916 rfl dL_law_915 2 rfl 2 rfl ?_
      refine tr_aload_n C 917 rfl dL_law_916 0 rfl 0 rfl ?_
      refine tr_iload_n C 918 rfl dL_law_917 3 rfl 3 rfl ?_
      refine tr_iconst C 919 rfl dL_law_918 (v := 1) (by decide) ?_
      refine tr_iadd C 920 rfl dL_law_919 ?_
      refine tr_spld C SX 921 rfl dL_law_920 (fun x920_188 => ?_)
      refine tr_aload_n C 922 rfl dL_law_921 0 rfl 0 rfl ?_
      refine tr_iload_n C 923 rfl dL_law_922 3 rfl 3 rfl ?_
      refine tr_iconst C 924 rfl dL_law_923 (v := 2) (by decide) ?_
      refine tr_iadd C 925 rfl dL_law_924 ?_
      refine tr_spld C SX 926 rfl dL_law_925 (fun x925_189 => ?_)
      refine tr_callVI (f := fun a => fX3_least a x920_188 x925_189 r912_186.2) (x := v2) (n := 2) (As := [.inl x920_188, .inl x925_189]) (rest := [.int r912_186.1]) (fr2 := 5) (lo2 := 101) C Rm 929 rfl dL_law_926 (lw_V q2023 q2024 q2025 q162 q2026) (kX3 w) (by decide +kernel) rfl ⟨Nat.le_trans (Nat.le_of_ble_eq_true rfl) hfr, Nat.le_trans (Nat.le_of_ble_eq_true rfl) hlo⟩ rfl (Nat.le_of_ble_eq_true rfl) (fun a r hr => mX3_least w (Nat.le_refl 5) (Nat.le_refl 101) a x920_188 x925_189 r912_186.2 r hr) (fun r926_190 => ?_)
      refine tr_icmp_eq C 1263 932 rfl dL_law_929 (by decide) ?_ ?_
      · exact tL_law_L1263 w C Rm E n0 xs SX hfr hlo v1 v2 v3 r926_190.2
      · refine tr_xr ?_
        refine tr_iconst C 933 rfl dL_law_932 (v := 0) (by decide) ?_
        exact tr_lawret C E dL_law_933
    refine tr_case (v := 26) (by decide) ?_ ?_
    · refine tr_aload_n C 935 rfl dL_law_934 1 rfl 1 rfl ?_
      refine tr_aload_n C 936 rfl dL_law_935 0 rfl 0 rfl ?_
      refine tr_iload_n C 937 rfl dL_law_936 3 rfl 3 rfl ?_
      refine tr_iconst C 938 rfl dL_law_937 (v := 1) (by decide) ?_
      refine tr_iadd C 939 rfl dL_law_938 ?_
      refine tr_spld C SX 940 rfl dL_law_939 (fun x939_192 => ?_)
      refine tr_aload_n C 941 rfl dL_law_940 0 rfl 0 rfl ?_
      refine tr_iload_n C 942 rfl dL_law_941 3 rfl 3 rfl ?_
      refine tr_iconst C 943 rfl dL_law_942 (v := 2) (by decide) ?_
      refine tr_iadd C 944 rfl dL_law_943 ?_
      refine tr_spld C SX 945 rfl dL_law_944 (fun x944_193 => ?_)
      refine tr_callVI (f := fun a => fX0_plan a x939_192 x944_193 h) (x := v1) (n := 2) (As := [.inl x939_192, .inl x944_193]) (rest := []) (fr2 := 641) (lo2 := 13209) C Rm 948 rfl dL_law_945 (lw_V q1222 q1223 q1224 q156 q1225) (kX0 w) (by decide +kernel) rfl ⟨Nat.le_trans (Nat.le_of_ble_eq_true rfl) hfr, Nat.le_trans (Nat.le_of_ble_eq_true rfl) hlo⟩ rfl (Nat.le_of_ble_eq_true rfl) (fun a r hr => mX0_plan w (Nat.le_refl 641) (Nat.le_refl 13209) a x939_192 x944_193 h r hr) (fun r945_194 => ?_)
      refine tr_aload_n C 949 rfl dL_law_948 2 rfl 2 rfl ?_
      refine tr_aload_n C 950 rfl dL_law_949 0 rfl 0 rfl ?_
      refine tr_iload_n C 951 rfl dL_law_950 3 rfl 3 rfl ?_
      refine tr_iconst C 952 rfl dL_law_951 (v := 1) (by decide) ?_
      refine tr_iadd C 953 rfl dL_law_952 ?_
      refine tr_spld C SX 954 rfl dL_law_953 (fun x953_196 => ?_)
      refine tr_aload_n C 955 rfl dL_law_954 0 rfl 0 rfl ?_
      refine tr_iload_n C 956 rfl dL_law_955 3 rfl 3 rfl ?_
      refine tr_iconst C 957 rfl dL_law_956 (v := 2) (by decide) ?_
      refine tr_iadd C 958 rfl dL_law_957 ?_
      refine tr_spld C SX 959 rfl dL_law_958 (fun x958_197 => ?_)
      refine tr_callVI (f := fun a => fX3_plan a x953_196 x958_197 r945_194.2) (x := v2) (n := 2) (As := [.inl x953_196, .inl x958_197]) (rest := [.int r945_194.1]) (fr2 := 5) (lo2 := 102) C Rm 962 rfl dL_law_959 (lw_V q2051 q2052 q2053 q162 q2054) (kX3 w) (by decide +kernel) rfl ⟨Nat.le_trans (Nat.le_of_ble_eq_true rfl) hfr, Nat.le_trans (Nat.le_of_ble_eq_true rfl) hlo⟩ rfl (Nat.le_of_ble_eq_true rfl) (fun a r hr => mX3_plan w (Nat.le_refl 5) (Nat.le_refl 102) a x953_196 x958_197 r945_194.2 r hr) (fun r959_198 => ?_)
      refine tr_icmp_eq C 1263 965 rfl dL_law_962 (by decide) ?_ ?_
      · exact tL_law_L1263 w C Rm E n0 xs SX hfr hlo v1 v2 v3 r959_198.2
      · refine tr_xr ?_
        refine tr_iconst C 966 rfl dL_law_965 (v := 0) (by decide) ?_
        exact tr_lawret C E dL_law_966
    refine tr_case (v := 27) (by decide) ?_ ?_
    · refine tr_aload_n C 968 rfl dL_law_967 1 rfl 1 rfl ?_
      refine tr_aload_n C 969 rfl dL_law_968 0 rfl 0 rfl ?_
      refine tr_iload_n C 970 rfl dL_law_969 3 rfl 3 rfl ?_
      refine tr_iconst C 971 rfl dL_law_970 (v := 1) (by decide) ?_
      refine tr_iadd C 972 rfl dL_law_971 ?_
      refine tr_spld C SX 973 rfl dL_law_972 (fun x972_200 => ?_)
      refine tr_aload_n C 974 rfl dL_law_973 0 rfl 0 rfl ?_
      refine tr_iload_n C 975 rfl dL_law_974 3 rfl 3 rfl ?_
      refine tr_iconst C 976 rfl dL_law_975 (v := 2) (by decide) ?_
      refine tr_iadd C 977 rfl dL_law_976 ?_
      refine tr_spld C SX 978 rfl dL_law_977 (fun x977_201 => ?_)
      refine tr_callVI (f := fun a => fX0_walk a x972_200 x977_201 h) (x := v1) (n := 2) (As := [.inl x972_200, .inl x977_201]) (rest := []) (fr2 := 7) (lo2 := 150) C Rm 981 rfl dL_law_978 (lw_V q1232 q1233 q1234 q156 q1235) (kX0 w) (by decide +kernel) rfl ⟨Nat.le_trans (Nat.le_of_ble_eq_true rfl) hfr, Nat.le_trans (Nat.le_of_ble_eq_true rfl) hlo⟩ rfl (Nat.le_of_ble_eq_true rfl) (fun a r hr => mX0_walk w (Nat.le_refl 7) (Nat.le_refl 150) a x972_200 x977_201 h r hr) (fun r978_202 => ?_)
      refine tr_aload_n C 982 rfl dL_law_981 2 rfl 2 rfl ?_
      refine tr_aload_n C 983 rfl dL_law_982 0 rfl 0 rfl ?_
      refine tr_iload_n C 984 rfl dL_law_983 3 rfl 3 rfl ?_
      refine tr_iconst C 985 rfl dL_law_984 (v := 1) (by decide) ?_
      refine tr_iadd C 986 rfl dL_law_985 ?_
      refine tr_spld C SX 987 rfl dL_law_986 (fun x986_204 => ?_)
      refine tr_aload_n C 988 rfl dL_law_987 0 rfl 0 rfl ?_
      refine tr_iload_n C 989 rfl dL_law_988 3 rfl 3 rfl ?_
      refine tr_iconst C 990 rfl dL_law_989 (v := 2) (by decide) ?_
      refine tr_iadd C 991 rfl dL_law_990 ?_
      refine tr_spld C SX 992 rfl dL_law_991 (fun x991_205 => ?_)
      refine tr_callVI (f := fun a => fX3_walk a x986_204 x991_205 r978_202.2) (x := v2) (n := 2) (As := [.inl x986_204, .inl x991_205]) (rest := [.int r978_202.1]) (fr2 := 5) (lo2 := 101) C Rm 995 rfl dL_law_992 (lw_V q2072 q2073 q2074 q162 q2075) (kX3 w) (by decide +kernel) rfl ⟨Nat.le_trans (Nat.le_of_ble_eq_true rfl) hfr, Nat.le_trans (Nat.le_of_ble_eq_true rfl) hlo⟩ rfl (Nat.le_of_ble_eq_true rfl) (fun a r hr => mX3_walk w (Nat.le_refl 5) (Nat.le_refl 101) a x986_204 x991_205 r978_202.2 r hr) (fun r992_206 => ?_)
      refine tr_icmp_eq C 1263 998 rfl dL_law_995 (by decide) ?_ ?_
      · exact tL_law_L1263 w C Rm E n0 xs SX hfr hlo v1 v2 v3 r992_206.2
      · refine tr_xr ?_
        refine tr_iconst C 999 rfl dL_law_998 (v := 0) (by decide) ?_
        exact tr_lawret C E dL_law_999
    refine tr_case (v := 28) (by decide) ?_ ?_
    · refine tr_aload_n C 1001 rfl dL_law_1000 1 rfl 1 rfl ?_
      refine tr_aload_n C 1002 rfl dL_law_1001 0 rfl 0 rfl ?_
      refine tr_iload_n C 1003 rfl dL_law_1002 3 rfl 3 rfl ?_
      refine tr_iconst C 1004 rfl dL_law_1003 (v := 1) (by decide) ?_
      refine tr_iadd C 1005 rfl dL_law_1004 ?_
      refine tr_spld C SX 1006 rfl dL_law_1005 (fun x1005_208 => ?_)
      refine tr_aload_n C 1007 rfl dL_law_1006 0 rfl 0 rfl ?_
      refine tr_iload_n C 1008 rfl dL_law_1007 3 rfl 3 rfl ?_
      refine tr_iconst C 1009 rfl dL_law_1008 (v := 2) (by decide) ?_
      refine tr_iadd C 1010 rfl dL_law_1009 ?_
      refine tr_spld C SX 1011 rfl dL_law_1010 (fun x1010_209 => ?_)
      refine tr_callVI (f := fun a => fX0_bought a x1005_208 x1010_209 h) (x := v1) (n := 2) (As := [.inl x1005_208, .inl x1010_209]) (rest := []) (fr2 := 7) (lo2 := 151) C Rm 1014 rfl dL_law_1011 (lw_V q1249 q1250 q1251 q156 q1252) (kX0 w) (by decide +kernel) rfl ⟨Nat.le_trans (Nat.le_of_ble_eq_true rfl) hfr, Nat.le_trans (Nat.le_of_ble_eq_true rfl) hlo⟩ rfl (Nat.le_of_ble_eq_true rfl) (fun a r hr => mX0_bought w (Nat.le_refl 7) (Nat.le_refl 151) a x1005_208 x1010_209 h r hr) (fun r1011_210 => ?_)
      refine tr_aload_n C 1015 rfl dL_law_1014 2 rfl 2 rfl ?_
      refine tr_aload_n C 1016 rfl dL_law_1015 0 rfl 0 rfl ?_
      refine tr_iload_n C 1017 rfl dL_law_1016 3 rfl 3 rfl ?_
      refine tr_iconst C 1018 rfl dL_law_1017 (v := 1) (by decide) ?_
      refine tr_iadd C 1019 rfl dL_law_1018 ?_
      refine tr_spld C SX 1020 rfl dL_law_1019 (fun x1019_212 => ?_)
      refine tr_aload_n C 1021 rfl dL_law_1020 0 rfl 0 rfl ?_
      refine tr_iload_n C 1022 rfl dL_law_1021 3 rfl 3 rfl ?_
      refine tr_iconst C 1023 rfl dL_law_1022 (v := 2) (by decide) ?_
      refine tr_iadd C 1024 rfl dL_law_1023 ?_
      refine tr_spld C SX 1025 rfl dL_law_1024 (fun x1024_213 => ?_)
      refine tr_callVI (f := fun a => fX3_bought a x1019_212 x1024_213 r1011_210.2) (x := v2) (n := 2) (As := [.inl x1019_212, .inl x1024_213]) (rest := [.int r1011_210.1]) (fr2 := 5) (lo2 := 101) C Rm 1028 rfl dL_law_1025 (lw_V q2084 q2085 q2086 q162 q2087) (kX3 w) (by decide +kernel) rfl ⟨Nat.le_trans (Nat.le_of_ble_eq_true rfl) hfr, Nat.le_trans (Nat.le_of_ble_eq_true rfl) hlo⟩ rfl (Nat.le_of_ble_eq_true rfl) (fun a r hr => mX3_bought w (Nat.le_refl 5) (Nat.le_refl 101) a x1019_212 x1024_213 r1011_210.2 r hr) (fun r1025_214 => ?_)
      refine tr_icmp_eq C 1263 1031 rfl dL_law_1028 (by decide) ?_ ?_
      · exact tL_law_L1263 w C Rm E n0 xs SX hfr hlo v1 v2 v3 r1025_214.2
      · refine tr_xr ?_
        refine tr_iconst C 1032 rfl dL_law_1031 (v := 0) (by decide) ?_
        exact tr_lawret C E dL_law_1032
    refine tr_case (v := 29) (by decide) ?_ ?_
    · refine tr_aload_n C 1034 rfl dL_law_1033 1 rfl 1 rfl ?_
      refine tr_aload_n C 1035 rfl dL_law_1034 0 rfl 0 rfl ?_
      refine tr_iload_n C 1036 rfl dL_law_1035 3 rfl 3 rfl ?_
      refine tr_iconst C 1037 rfl dL_law_1036 (v := 1) (by decide) ?_
      refine tr_iadd C 1038 rfl dL_law_1037 ?_
      refine tr_spld C SX 1039 rfl dL_law_1038 (fun x1038_216 => ?_)
      refine tr_aload_n C 1040 rfl dL_law_1039 0 rfl 0 rfl ?_
      refine tr_iload_n C 1041 rfl dL_law_1040 3 rfl 3 rfl ?_
      refine tr_iconst C 1042 rfl dL_law_1041 (v := 2) (by decide) ?_
      refine tr_iadd C 1043 rfl dL_law_1042 ?_
      refine tr_spld C SX 1044 rfl dL_law_1043 (fun x1043_217 => ?_)
      refine tr_if_eq C 1051 1047 rfl dL_law_1044 (by decide) ?_ ?_
      · refine tr_iconst C 1052 rfl dL_law_1051 (v := 0) (by decide) ?_
        exact tL_law_L1052 w C Rm E n0 xs SX hfr hlo v1 v2 v3 v1 x1038_216 0 h
      · refine tr_iconst C 1048 rfl dL_law_1047 (v := 1) (by decide) ?_
        refine tr_goto C 1052 dL_law_1048 (by decide) ?_
        exact tL_law_L1052 w C Rm E n0 xs SX hfr hlo v1 v2 v3 v1 x1038_216 1 h
    refine tr_case (v := 30) (by decide) ?_ ?_
    · refine tr_aload_n C 1083 rfl dL_law_1082 1 rfl 1 rfl ?_
      refine tr_aload_n C 1084 rfl dL_law_1083 0 rfl 0 rfl ?_
      refine tr_iload_n C 1085 rfl dL_law_1084 3 rfl 3 rfl ?_
      refine tr_iconst C 1086 rfl dL_law_1085 (v := 1) (by decide) ?_
      refine tr_iadd C 1087 rfl dL_law_1086 ?_
      refine tr_spld C SX 1088 rfl dL_law_1087 (fun x1087_218 => ?_)
      refine tr_callVI (f := fun a => fX0_sets a x1087_218 h) (x := v1) (n := 1) (As := [.inl x1087_218]) (rest := []) (fr2 := 6) (lo2 := 123) C Rm 1091 rfl dL_law_1088 (lw_V q1265 q1266 q1267 q156 q1268) (kX0 w) (by decide +kernel) rfl ⟨Nat.le_trans (Nat.le_of_ble_eq_true rfl) hfr, Nat.le_trans (Nat.le_of_ble_eq_true rfl) hlo⟩ rfl (Nat.le_of_ble_eq_true rfl) (fun a r hr => mX0_sets w (Nat.le_refl 6) (Nat.le_refl 123) a x1087_218 h r hr) (fun r1088_219 => ?_)
      refine tr_aload_n C 1092 rfl dL_law_1091 2 rfl 2 rfl ?_
      refine tr_aload_n C 1093 rfl dL_law_1092 0 rfl 0 rfl ?_
      refine tr_iload_n C 1094 rfl dL_law_1093 3 rfl 3 rfl ?_
      refine tr_iconst C 1095 rfl dL_law_1094 (v := 1) (by decide) ?_
      refine tr_iadd C 1096 rfl dL_law_1095 ?_
      refine tr_spld C SX 1097 rfl dL_law_1096 (fun x1096_221 => ?_)
      refine tr_callVI (f := fun a => fX3_sets a x1096_221 r1088_219.2) (x := v2) (n := 1) (As := [.inl x1096_221]) (rest := [.int r1088_219.1]) (fr2 := 5) (lo2 := 103) C Rm 1100 rfl dL_law_1097 (lw_V q2092 q2093 q2094 q162 q2095) (kX3 w) (by decide +kernel) rfl ⟨Nat.le_trans (Nat.le_of_ble_eq_true rfl) hfr, Nat.le_trans (Nat.le_of_ble_eq_true rfl) hlo⟩ rfl (Nat.le_of_ble_eq_true rfl) (fun a r hr => mX3_sets w (Nat.le_refl 5) (Nat.le_refl 103) a x1096_221 r1088_219.2 r hr) (fun r1097_222 => ?_)
      refine tr_icmp_eq C 1263 1103 rfl dL_law_1100 (by decide) ?_ ?_
      · exact tL_law_L1263 w C Rm E n0 xs SX hfr hlo v1 v2 v3 r1097_222.2
      · refine tr_xr ?_
        refine tr_iconst C 1104 rfl dL_law_1103 (v := 0) (by decide) ?_
        exact tr_lawret C E dL_law_1104
    refine tr_case (v := 31) (by decide) ?_ ?_
    · refine tr_aload_n C 1106 rfl dL_law_1105 1 rfl 1 rfl ?_
      refine tr_aload_n C 1107 rfl dL_law_1106 0 rfl 0 rfl ?_
      refine tr_iload_n C 1108 rfl dL_law_1107 3 rfl 3 rfl ?_
      refine tr_iconst C 1109 rfl dL_law_1108 (v := 1) (by decide) ?_
      refine tr_iadd C 1110 rfl dL_law_1109 ?_
      refine tr_spld C SX 1111 rfl dL_law_1110 (fun x1110_224 => ?_)
      refine tr_callVI (f := fun a => fX0_next a x1110_224 h) (x := v1) (n := 1) (As := [.inl x1110_224]) (rest := []) (fr2 := 6) (lo2 := 123) C Rm 1114 rfl dL_law_1111 (lw_V q1278 q1279 q1280 q156 q1281) (kX0 w) (by decide +kernel) rfl ⟨Nat.le_trans (Nat.le_of_ble_eq_true rfl) hfr, Nat.le_trans (Nat.le_of_ble_eq_true rfl) hlo⟩ rfl (Nat.le_of_ble_eq_true rfl) (fun a r hr => mX0_next w (Nat.le_refl 6) (Nat.le_refl 123) a x1110_224 h r hr) (fun r1111_225 => ?_)
      refine tr_aload_n C 1115 rfl dL_law_1114 2 rfl 2 rfl ?_
      refine tr_aload_n C 1116 rfl dL_law_1115 0 rfl 0 rfl ?_
      refine tr_iload_n C 1117 rfl dL_law_1116 3 rfl 3 rfl ?_
      refine tr_iconst C 1118 rfl dL_law_1117 (v := 1) (by decide) ?_
      refine tr_iadd C 1119 rfl dL_law_1118 ?_
      refine tr_spld C SX 1120 rfl dL_law_1119 (fun x1119_227 => ?_)
      refine tr_callVI (f := fun a => fX3_next a x1119_227 r1111_225.2) (x := v2) (n := 1) (As := [.inl x1119_227]) (rest := [.int r1111_225.1]) (fr2 := 5) (lo2 := 103) C Rm 1123 rfl dL_law_1120 (lw_V q2105 q2106 q2107 q162 q2108) (kX3 w) (by decide +kernel) rfl ⟨Nat.le_trans (Nat.le_of_ble_eq_true rfl) hfr, Nat.le_trans (Nat.le_of_ble_eq_true rfl) hlo⟩ rfl (Nat.le_of_ble_eq_true rfl) (fun a r hr => mX3_next w (Nat.le_refl 5) (Nat.le_refl 103) a x1119_227 r1111_225.2 r hr) (fun r1120_228 => ?_)
      refine tr_icmp_eq C 1263 1126 rfl dL_law_1123 (by decide) ?_ ?_
      · exact tL_law_L1263 w C Rm E n0 xs SX hfr hlo v1 v2 v3 r1120_228.2
      · refine tr_xr ?_
        refine tr_iconst C 1127 rfl dL_law_1126 (v := 0) (by decide) ?_
        exact tr_lawret C E dL_law_1127
    refine tr_case (v := 32) (by decide) ?_ ?_
    · refine tr_aload_n C 1129 rfl dL_law_1128 1 rfl 1 rfl ?_
      refine tr_aload_n C 1130 rfl dL_law_1129 0 rfl 0 rfl ?_
      refine tr_iload_n C 1131 rfl dL_law_1130 3 rfl 3 rfl ?_
      refine tr_iconst C 1132 rfl dL_law_1131 (v := 1) (by decide) ?_
      refine tr_iadd C 1133 rfl dL_law_1132 ?_
      refine tr_spld C SX 1134 rfl dL_law_1133 (fun x1133_230 => ?_)
      refine tr_callVI (f := fun a => fX0_seed a x1133_230 h) (x := v1) (n := 1) (As := [.inl x1133_230]) (rest := []) (fr2 := 1) (lo2 := 12) C Rm 1137 rfl dL_law_1134 (lw_V q1282 q1283 q1284 q156 q1285) (kX0 w) (by decide +kernel) rfl ⟨Nat.le_trans (Nat.le_of_ble_eq_true rfl) hfr, Nat.le_trans (Nat.le_of_ble_eq_true rfl) hlo⟩ rfl (Nat.le_of_ble_eq_true rfl) (fun a r hr => mX0_seed w (Nat.le_refl 1) (Nat.le_refl 12) a x1133_230 h r hr) (fun r1134_231 => ?_)
      refine tr_aload_n C 1138 rfl dL_law_1137 2 rfl 2 rfl ?_
      refine tr_aload_n C 1139 rfl dL_law_1138 0 rfl 0 rfl ?_
      refine tr_iload_n C 1140 rfl dL_law_1139 3 rfl 3 rfl ?_
      refine tr_iconst C 1141 rfl dL_law_1140 (v := 1) (by decide) ?_
      refine tr_iadd C 1142 rfl dL_law_1141 ?_
      refine tr_spld C SX 1143 rfl dL_law_1142 (fun x1142_233 => ?_)
      refine tr_callVI (f := fun a => fX3_seed a x1142_233 r1134_231.2) (x := v2) (n := 1) (As := [.inl x1142_233]) (rest := [.int r1134_231.1]) (fr2 := 1) (lo2 := 12) C Rm 1146 rfl dL_law_1143 (lw_V q2109 q2110 q2111 q162 q2112) (kX3 w) (by decide +kernel) rfl ⟨Nat.le_trans (Nat.le_of_ble_eq_true rfl) hfr, Nat.le_trans (Nat.le_of_ble_eq_true rfl) hlo⟩ rfl (Nat.le_of_ble_eq_true rfl) (fun a r hr => mX3_seed w (Nat.le_refl 1) (Nat.le_refl 12) a x1142_233 r1134_231.2 r hr) (fun r1143_234 => ?_)
      refine tr_icmp_eq C 1263 1149 rfl dL_law_1146 (by decide) ?_ ?_
      · exact tL_law_L1263 w C Rm E n0 xs SX hfr hlo v1 v2 v3 r1143_234.2
      · refine tr_xr ?_
        refine tr_iconst C 1150 rfl dL_law_1149 (v := 0) (by decide) ?_
        exact tr_lawret C E dL_law_1150
    refine tr_case (v := 33) (by decide) ?_ ?_
    · refine tr_aload_n C 1152 rfl dL_law_1151 1 rfl 1 rfl ?_
      refine tr_aload_n C 1153 rfl dL_law_1152 0 rfl 0 rfl ?_
      refine tr_iload_n C 1154 rfl dL_law_1153 3 rfl 3 rfl ?_
      refine tr_iconst C 1155 rfl dL_law_1154 (v := 1) (by decide) ?_
      refine tr_iadd C 1156 rfl dL_law_1155 ?_
      refine tr_spld C SX 1157 rfl dL_law_1156 (fun x1156_236 => ?_)
      refine tr_aload_n C 1158 rfl dL_law_1157 0 rfl 0 rfl ?_
      refine tr_iload_n C 1159 rfl dL_law_1158 3 rfl 3 rfl ?_
      refine tr_iconst C 1160 rfl dL_law_1159 (v := 2) (by decide) ?_
      refine tr_iadd C 1161 rfl dL_law_1160 ?_
      refine tr_spld C SX 1162 rfl dL_law_1161 (fun x1161_237 => ?_)
      refine tr_aload_n C 1163 rfl dL_law_1162 0 rfl 0 rfl ?_
      refine tr_iload_n C 1164 rfl dL_law_1163 3 rfl 3 rfl ?_
      refine tr_iconst C 1165 rfl dL_law_1164 (v := 3) (by decide) ?_
      refine tr_iadd C 1166 rfl dL_law_1165 ?_
      refine tr_spld C SX 1167 rfl dL_law_1166 (fun x1166_238 => ?_)
      refine tr_callVI (f := fun a => fX0_years a x1156_236 x1161_237 x1166_238 h) (x := v1) (n := 3) (As := [.inl x1156_236, .inl x1161_237, .inl x1166_238]) (rest := []) (fr2 := 5) (lo2 := 105) C Rm 1170 rfl dL_law_1167 (lw_V q1286 q1287 q1288 q156 q1289) (kX0 w) (by decide +kernel) rfl ⟨Nat.le_trans (Nat.le_of_ble_eq_true rfl) hfr, Nat.le_trans (Nat.le_of_ble_eq_true rfl) hlo⟩ rfl (Nat.le_of_ble_eq_true rfl) (fun a r hr => mX0_years w (Nat.le_refl 5) (Nat.le_refl 105) a x1156_236 x1161_237 x1166_238 h r hr) (fun r1167_239 => ?_)
      refine tr_aload_n C 1171 rfl dL_law_1170 2 rfl 2 rfl ?_
      refine tr_aload_n C 1172 rfl dL_law_1171 0 rfl 0 rfl ?_
      refine tr_iload_n C 1173 rfl dL_law_1172 3 rfl 3 rfl ?_
      refine tr_iconst C 1174 rfl dL_law_1173 (v := 1) (by decide) ?_
      refine tr_iadd C 1175 rfl dL_law_1174 ?_
      refine tr_spld C SX 1176 rfl dL_law_1175 (fun x1175_241 => ?_)
      refine tr_aload_n C 1177 rfl dL_law_1176 0 rfl 0 rfl ?_
      refine tr_iload_n C 1178 rfl dL_law_1177 3 rfl 3 rfl ?_
      refine tr_iconst C 1179 rfl dL_law_1178 (v := 2) (by decide) ?_
      refine tr_iadd C 1180 rfl dL_law_1179 ?_
      refine tr_spld C SX 1181 rfl dL_law_1180 (fun x1180_242 => ?_)
      refine tr_aload_n C 1182 rfl dL_law_1181 0 rfl 0 rfl ?_
      refine tr_iload_n C 1183 rfl dL_law_1182 3 rfl 3 rfl ?_
      refine tr_iconst C 1184 rfl dL_law_1183 (v := 3) (by decide) ?_
      refine tr_iadd C 1185 rfl dL_law_1184 ?_
      refine tr_spld C SX 1186 rfl dL_law_1185 (fun x1185_243 => ?_)
      refine tr_callVI (f := fun a => fX3_years a x1175_241 x1180_242 x1185_243 r1167_239.2) (x := v2) (n := 3) (As := [.inl x1175_241, .inl x1180_242, .inl x1185_243]) (rest := [.int r1167_239.1]) (fr2 := 6) (lo2 := 124) C Rm 1189 rfl dL_law_1186 (lw_V q2113 q2114 q2115 q162 q2116) (kX3 w) (by decide +kernel) rfl ⟨Nat.le_trans (Nat.le_of_ble_eq_true rfl) hfr, Nat.le_trans (Nat.le_of_ble_eq_true rfl) hlo⟩ rfl (Nat.le_of_ble_eq_true rfl) (fun a r hr => mX3_years w (Nat.le_refl 6) (Nat.le_refl 124) a x1175_241 x1180_242 x1185_243 r1167_239.2 r hr) (fun r1186_244 => ?_)
      refine tr_icmp_eq C 1263 1192 rfl dL_law_1189 (by decide) ?_ ?_
      · exact tL_law_L1263 w C Rm E n0 xs SX hfr hlo v1 v2 v3 r1186_244.2
      · refine tr_xr ?_
        refine tr_iconst C 1193 rfl dL_law_1192 (v := 0) (by decide) ?_
        exact tr_lawret C E dL_law_1193
    refine tr_case (v := 34) (by decide) ?_ ?_
    · refine tr_aload_n C 1195 rfl dL_law_1194 1 rfl 1 rfl ?_
      refine tr_aload_n C 1196 rfl dL_law_1195 0 rfl 0 rfl ?_
      refine tr_iload_n C 1197 rfl dL_law_1196 3 rfl 3 rfl ?_
      refine tr_iconst C 1198 rfl dL_law_1197 (v := 1) (by decide) ?_
      refine tr_iadd C 1199 rfl dL_law_1198 ?_
      refine tr_spld C SX 1200 rfl dL_law_1199 (fun x1199_246 => ?_)
      refine tr_callVI (f := fun a => fX0_count a x1199_246 h) (x := v1) (n := 1) (As := [.inl x1199_246]) (rest := []) (fr2 := 3) (lo2 := 56) C Rm 1203 rfl dL_law_1200 (lw_V q1303 q1304 q1305 q156 q1306) (kX0 w) (by decide +kernel) rfl ⟨Nat.le_trans (Nat.le_of_ble_eq_true rfl) hfr, Nat.le_trans (Nat.le_of_ble_eq_true rfl) hlo⟩ rfl (Nat.le_of_ble_eq_true rfl) (fun a r hr => mX0_count w (Nat.le_refl 3) (Nat.le_refl 56) a x1199_246 h r hr) (fun r1200_247 => ?_)
      refine tr_aload_n C 1204 rfl dL_law_1203 2 rfl 2 rfl ?_
      refine tr_aload_n C 1205 rfl dL_law_1204 0 rfl 0 rfl ?_
      refine tr_iload_n C 1206 rfl dL_law_1205 3 rfl 3 rfl ?_
      refine tr_iconst C 1207 rfl dL_law_1206 (v := 1) (by decide) ?_
      refine tr_iadd C 1208 rfl dL_law_1207 ?_
      refine tr_spld C SX 1209 rfl dL_law_1208 (fun x1208_249 => ?_)
      refine tr_callVI (f := fun a => fX3_count a x1208_249 r1200_247.2) (x := v2) (n := 1) (As := [.inl x1208_249]) (rest := [.int r1200_247.1]) (fr2 := 3) (lo2 := 57) C Rm 1212 rfl dL_law_1209 (lw_V q2130 q2131 q2132 q162 q2133) (kX3 w) (by decide +kernel) rfl ⟨Nat.le_trans (Nat.le_of_ble_eq_true rfl) hfr, Nat.le_trans (Nat.le_of_ble_eq_true rfl) hlo⟩ rfl (Nat.le_of_ble_eq_true rfl) (fun a r hr => mX3_count w (Nat.le_refl 3) (Nat.le_refl 57) a x1208_249 r1200_247.2 r hr) (fun r1209_250 => ?_)
      refine tr_icmp_eq C 1263 1215 rfl dL_law_1212 (by decide) ?_ ?_
      · exact tL_law_L1263 w C Rm E n0 xs SX hfr hlo v1 v2 v3 r1209_250.2
      · refine tr_xr ?_
        refine tr_iconst C 1216 rfl dL_law_1215 (v := 0) (by decide) ?_
        exact tr_lawret C E dL_law_1216
    refine tr_case (v := 35) (by decide) ?_ ?_
    · refine tr_aload_n C 1218 rfl dL_law_1217 1 rfl 1 rfl ?_
      refine tr_aload_n C 1219 rfl dL_law_1218 0 rfl 0 rfl ?_
      refine tr_iload_n C 1220 rfl dL_law_1219 3 rfl 3 rfl ?_
      refine tr_iconst C 1221 rfl dL_law_1220 (v := 1) (by decide) ?_
      refine tr_iadd C 1222 rfl dL_law_1221 ?_
      refine tr_spld C SX 1223 rfl dL_law_1222 (fun x1222_252 => ?_)
      refine tr_callVI (f := fun a => fX0_image a x1222_252 h) (x := v1) (n := 1) (As := [.inl x1222_252]) (rest := []) (fr2 := 3) (lo2 := 82) C Rm 1226 rfl dL_law_1223 (lw_V q1308 q1309 q1310 q156 q1311) (kX0 w) (by decide +kernel) rfl ⟨Nat.le_trans (Nat.le_of_ble_eq_true rfl) hfr, Nat.le_trans (Nat.le_of_ble_eq_true rfl) hlo⟩ rfl (Nat.le_of_ble_eq_true rfl) (fun a r hr => mX0_image w (Nat.le_refl 3) (Nat.le_refl 82) a x1222_252 h r hr) (fun r1223_253 => ?_)
      refine tr_aload_n C 1227 rfl dL_law_1226 2 rfl 2 rfl ?_
      refine tr_aload_n C 1228 rfl dL_law_1227 0 rfl 0 rfl ?_
      refine tr_iload_n C 1229 rfl dL_law_1228 3 rfl 3 rfl ?_
      refine tr_iconst C 1230 rfl dL_law_1229 (v := 1) (by decide) ?_
      refine tr_iadd C 1231 rfl dL_law_1230 ?_
      refine tr_spld C SX 1232 rfl dL_law_1231 (fun x1231_255 => ?_)
      refine tr_callVI (f := fun a => fX3_image a x1231_255 r1223_253.2) (x := v2) (n := 1) (As := [.inl x1231_255]) (rest := [.int r1223_253.1]) (fr2 := 3) (lo2 := 56) C Rm 1235 rfl dL_law_1232 (lw_V q2134 q2135 q2136 q162 q2137) (kX3 w) (by decide +kernel) rfl ⟨Nat.le_trans (Nat.le_of_ble_eq_true rfl) hfr, Nat.le_trans (Nat.le_of_ble_eq_true rfl) hlo⟩ rfl (Nat.le_of_ble_eq_true rfl) (fun a r hr => mX3_image w (Nat.le_refl 3) (Nat.le_refl 56) a x1231_255 r1223_253.2 r hr) (fun r1232_256 => ?_)
      refine tr_icmp_eq C 1263 1238 rfl dL_law_1235 (by decide) ?_ ?_
      · exact tL_law_L1263 w C Rm E n0 xs SX hfr hlo v1 v2 v3 r1232_256.2
      · refine tr_xr ?_
        refine tr_iconst C 1239 rfl dL_law_1238 (v := 0) (by decide) ?_
        exact tr_lawret C E dL_law_1239
    refine tr_case (v := 36) (by decide) ?_ ?_
    · refine tr_aload_n C 1241 rfl dL_law_1240 1 rfl 1 rfl ?_
      refine tr_aload_n C 1242 rfl dL_law_1241 0 rfl 0 rfl ?_
      refine tr_iload_n C 1243 rfl dL_law_1242 3 rfl 3 rfl ?_
      refine tr_iconst C 1244 rfl dL_law_1243 (v := 1) (by decide) ?_
      refine tr_iadd C 1245 rfl dL_law_1244 ?_
      refine tr_spld C SX 1246 rfl dL_law_1245 (fun x1245_258 => ?_)
      refine tr_callVI (f := fun a => fX0_back a x1245_258 h) (x := v1) (n := 1) (As := [.inl x1245_258]) (rest := []) (fr2 := 3) (lo2 := 82) C Rm 1249 rfl dL_law_1246 (lw_V q1331 q1332 q1333 q156 q1334) (kX0 w) (by decide +kernel) rfl ⟨Nat.le_trans (Nat.le_of_ble_eq_true rfl) hfr, Nat.le_trans (Nat.le_of_ble_eq_true rfl) hlo⟩ rfl (Nat.le_of_ble_eq_true rfl) (fun a r hr => mX0_back w (Nat.le_refl 3) (Nat.le_refl 82) a x1245_258 h r hr) (fun r1246_259 => ?_)
      refine tr_aload_n C 1250 rfl dL_law_1249 2 rfl 2 rfl ?_
      refine tr_aload_n C 1251 rfl dL_law_1250 0 rfl 0 rfl ?_
      refine tr_iload_n C 1252 rfl dL_law_1251 3 rfl 3 rfl ?_
      refine tr_iconst C 1253 rfl dL_law_1252 (v := 1) (by decide) ?_
      refine tr_iadd C 1254 rfl dL_law_1253 ?_
      refine tr_spld C SX 1255 rfl dL_law_1254 (fun x1254_261 => ?_)
      refine tr_callVI (f := fun a => fX3_back a x1254_261 r1246_259.2) (x := v2) (n := 1) (As := [.inl x1254_261]) (rest := [.int r1246_259.1]) (fr2 := 3) (lo2 := 56) C Rm 1258 rfl dL_law_1255 (lw_V q2139 q2140 q2141 q162 q2142) (kX3 w) (by decide +kernel) rfl ⟨Nat.le_trans (Nat.le_of_ble_eq_true rfl) hfr, Nat.le_trans (Nat.le_of_ble_eq_true rfl) hlo⟩ rfl (Nat.le_of_ble_eq_true rfl) (fun a r hr => mX3_back w (Nat.le_refl 3) (Nat.le_refl 56) a x1254_261 r1246_259.2 r hr) (fun r1255_262 => ?_)
      refine tr_icmp_eq C 1263 1261 rfl dL_law_1258 (by decide) ?_ ?_
      · exact tL_law_L1263 w C Rm E n0 xs SX hfr hlo v1 v2 v3 r1255_262.2
      · refine tr_xr ?_
        refine tr_iconst C 1262 rfl dL_law_1261 (v := 0) (by decide) ?_
        exact tr_lawret C E dL_law_1262
    refine tr_dflt ?_
    exact tL_law_L1263 w C Rm E n0 xs SX hfr hlo v1 v2 v3 h
theorem tL_law_L18 {G : gv_t} {Z : zx_t} {fr lo : Nat} (w : gw_ G) (C : Cz G Z cL_law R_law 4 (some .boolean)) (Rm : Rz Z fr lo) (E : le_ G Z) (n0 : Nat) (xs : Nat → Int32) (SX : gs_ G n0 xs) (hfr : 1292 ≤ fr) (hlo : 27001 ≤ lo) (v1 : Option Nat) (v2 : Option Nat) (v3 : Int32) (h : ph_t) : Tr G Z gdl_ 18 [(0, .inr (.inr (some 60))), (1, .inr (.inr v1)), (2, .inr (.inr v2)), (3, .inl v3)] [] h (fL_law_L18 n0 xs v1 v2 v3 h) :=
  tr_whl (lL_law_L18 v1 v2) (fun s => s.2) (fun s => tL_law_L18_b w C Rm E n0 xs SX hfr hlo v1 v2 s.1 s.2) (v3, h)
noncomputable def fL_law (n0 : Nat) (xs : Nat → Int32) (h : ph_t) : Option (Int32 × ph_t) :=
  nw_ h 0 30 fun a0_1 h0_2 => if 64 ≤ a0_1 then ((fX0_init a0_1 h0_2).bind fun r4_3 => nw_ r4_3.2 2 77 fun a8_4 h8_5 => if 64 ≤ a8_4 then ((fX3_init a8_4 h8_5).bind fun r12_6 => fL_law_L18 n0 xs (some a0_1) (some a8_4) 0 r12_6.2) else none) else none
theorem tL_law_E {G : gv_t} {Z : zx_t} {fr lo : Nat} (w : gw_ G) (C : Cz G Z cL_law R_law 4 (some .boolean)) (Rm : Rz Z fr lo) (E : le_ G Z) (n0 : Nat) (xs : Nat → Int32) (SX : gs_ G n0 xs) (hfr : 1292 ≤ fr) (hlo : 27001 ≤ lo) (h : ph_t) : Tr G Z gdl_ 0 [(0, .inr (.inr (some 60)))] [] h (fL_law n0 xs h) := by
  unfold fL_law
  refine tr_new C 3 rfl dL_law_0 (kX0 w) (by decide) q187 q188 q156 (fun a0_1 h0_2 => ?_)
  refine tr_dup C 4 rfl dL_law_3 rf_cat ?_
  refine tr_callI (f := fun a => fX0_init a h0_2) (n := 0) (As := []) (rest := [rf_ G (some a0_1)]) (fr2 := 5) (lo2 := 112) C Rm 7 rfl dL_law_4 (lw_meth q191) q156 q189 q190 rfl (by decide +kernel) rfl ⟨Nat.le_trans (Nat.le_of_ble_eq_true rfl) hfr, Nat.le_trans (Nat.le_of_ble_eq_true rfl) hlo⟩ rfl (by simp only [List.map_cons, List.map_nil, List.sum_cons, List.sum_nil, rf_cat]; exact Nat.le_of_ble_eq_true rfl) (fun r hr => mX0_init w (Nat.le_refl 5) (Nat.le_refl 112) a0_1 h0_2 r hr) (fun r4_3 => ?_)
  refine tr_astore_n (L' := [(1, .inr (.inr (some a0_1))), (0, .inr (.inr (some 60)))]) C 8 rfl dL_law_7 1 rfl (by decide) rfl ?_
  refine tr_new C 11 rfl dL_law_8 (kX3 w) (by decide) q1335 q1336 q162 (fun a8_4 h8_5 => ?_)
  refine tr_dup C 12 rfl dL_law_11 rf_cat ?_
  refine tr_callI (f := fun a => fX3_init a h8_5) (n := 0) (As := []) (rest := [rf_ G (some a8_4)]) (fr2 := 1) (lo2 := 20) C Rm 15 rfl dL_law_12 (lw_meth q1339) q162 q1337 q1338 rfl (by decide +kernel) rfl ⟨Nat.le_trans (Nat.le_of_ble_eq_true rfl) hfr, Nat.le_trans (Nat.le_of_ble_eq_true rfl) hlo⟩ rfl (by simp only [List.map_cons, List.map_nil, List.sum_cons, List.sum_nil, rf_cat]; exact Nat.le_of_ble_eq_true rfl) (fun r hr => mX3_init w (Nat.le_refl 1) (Nat.le_refl 20) a8_4 h8_5 r hr) (fun r12_6 => ?_)
  refine tr_astore_n (L' := [(2, .inr (.inr (some a8_4))), (1, .inr (.inr (some a0_1))), (0, .inr (.inr (some 60)))]) C 16 rfl dL_law_15 2 rfl (by decide) rfl ?_
  refine tr_iconst C 17 rfl dL_law_16 (v := 0) (by decide) ?_
  refine tr_istore_n (L' := [(3, .inl 0), (2, .inr (.inr (some a8_4))), (1, .inr (.inr (some a0_1))), (0, .inr (.inr (some 60)))]) C 18 rfl dL_law_17 3 rfl (by decide) rfl ?_
  refine tr_sub [3, 2, 1, 0] rfl ?_
  exact tL_law_L18 w C Rm E n0 xs SX hfr hlo (some a0_1) (some a8_4) 0 r12_6.2
