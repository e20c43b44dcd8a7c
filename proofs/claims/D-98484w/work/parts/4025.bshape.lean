/-! P2 BSHAPE: where TruthBridge's rows lie -/
def gtg (j : Nat) : Nat := if j = 0 then 1 else if j = 11 then 21 else if j = 12 then 21 else 20
def glg (j : Nat) : Nat := if j = 1 then 6 else if j = 2 then 6 else if j = 3 then 6 else if j = 4 then 6 else if j = 5 then 6 else if j = 6 then 6 else if j = 7 then 36 else if j = 8 then 8 else if j = 9 then 8 else if j = 10 then 20 else if j = 11 then 28 else if j = 12 then 560 else if j = 13 then 400 else 0
def GS (q : ph_t) (g : Nat) : Prop := (∀ j, j < 14 → ph_T q (g + j) = gtg j ∧ (1 ≤ j → ph_N q (g + j) = glg j)) ∧ ∀ j, 1 ≤ j → j < 14 → ph_R q g (j + 8) = some (g + j)
def xtl : List (Nat × Nat × Nat) := [(65, 21, 96), (123, 22, 400), (124, 24, 5), (125, 24, 1), (126, 24, 10), (127, 25, 6), (128, 21, 10), (129, 20, 4), (130, 20, 8), (131, 20, 8), (132, 21, 16), (133, 20, 384), (134, 20, 256), (135, 26, 4)]
def xfd : List (Nat × Nat) := [(0, 65), (9, 123), (11, 124), (12, 125), (13, 126), (14, 127), (16, 128), (17, 129), (19, 130), (20, 131), (21, 132), (23, 133), (24, 134), (29, 135), (3, 66), (4, 80), (5, 94), (6, 108), (8, 122)]
def XS (q : ph_t) : Prop := ph_T q 64 = 0 ∧ ph_T q 122 = 4 ∧ (∀ p ∈ xtl, ph_T q p.1 = p.2.1 ∧ ph_N q p.1 = p.2.2) ∧ (∀ p ∈ xfd, ph_R q 64 p.1 = some p.2) ∧ GS q 66 ∧ GS q 80 ∧ GS q 94 ∧ GS q 108
section BSH
variable {q : ph_t} {I : iF} {L : lF_} {k f g : Nat} {v : Int32} {w : Int64}
theorem GS.t0 (G : GS q g) : ph_T q g = 1 := (G.1 0 (by decide)).1
theorem dg (G : GS q g) : dv_ (hw q I L) (some g) 1 = some g := if_pos G.t0
theorem gg_I (G : GS q g) : gI (hw q I L) (some g) 1 f = some (I g f) := if_pos G.t0
theorem sg_I (G : GS q g) : sI (hw q I L) (some g) 1 f v = some (hw q (ph_u I g f v) L) := by
  exact if_pos G.t0
theorem gg_R (G : GS q g) {j : Nat} (h1 : 1 ≤ j) (h2 : j < 14) : gR (hw q I L) (some g) 1 (j + 8) = some (some (g + j)) := by
  refine (if_pos G.t0).trans ?_
  exact congrArg some (G.2 j h1 h2)
theorem GS.T (G : GS q g) {j : Nat} (h : j < 14) : ph_T q (g + j) = gtg j := (G.1 j h).1
theorem GS.N (G : GS q g) {j : Nat} (h1 : 1 ≤ j) (h : j < 14) : ph_N q (g + j) = glg j := (G.1 j h).2 h1
theorem gg9 (G : GS q g) : gR (hw q I L) (some g) 1 9 = some (some (g + 1)) := gg_R G (by decide) (by decide)
theorem xg9 (G : GS q g) (hk : k < 6) : xI (hw q I L) (some (g + 1)) 20 (nI k) = some (I (g + 1) k) := xw_I (G.T (by decide)) (G.N (by decide) (by decide)) hk (by decide)
theorem yg9 (G : GS q g) (hk : k < 6) : yI (hw q I L) (some (g + 1)) 20 (nI k) v = some (hw q (ph_u I (g + 1) k v) L) := yw_I (G.T (by decide)) (G.N (by decide) (by decide)) hk (by decide)
theorem gg10 (G : GS q g) : gR (hw q I L) (some g) 1 10 = some (some (g + 2)) := gg_R G (by decide) (by decide)
theorem xg10 (G : GS q g) (hk : k < 6) : xI (hw q I L) (some (g + 2)) 20 (nI k) = some (I (g + 2) k) := xw_I (G.T (by decide)) (G.N (by decide) (by decide)) hk (by decide)
theorem yg10 (G : GS q g) (hk : k < 6) : yI (hw q I L) (some (g + 2)) 20 (nI k) v = some (hw q (ph_u I (g + 2) k v) L) := yw_I (G.T (by decide)) (G.N (by decide) (by decide)) hk (by decide)
theorem gg11 (G : GS q g) : gR (hw q I L) (some g) 1 11 = some (some (g + 3)) := gg_R G (by decide) (by decide)
theorem xg11 (G : GS q g) (hk : k < 6) : xI (hw q I L) (some (g + 3)) 20 (nI k) = some (I (g + 3) k) := xw_I (G.T (by decide)) (G.N (by decide) (by decide)) hk (by decide)
theorem yg11 (G : GS q g) (hk : k < 6) : yI (hw q I L) (some (g + 3)) 20 (nI k) v = some (hw q (ph_u I (g + 3) k v) L) := yw_I (G.T (by decide)) (G.N (by decide) (by decide)) hk (by decide)
theorem gg12 (G : GS q g) : gR (hw q I L) (some g) 1 12 = some (some (g + 4)) := gg_R G (by decide) (by decide)
theorem xg12 (G : GS q g) (hk : k < 6) : xI (hw q I L) (some (g + 4)) 20 (nI k) = some (I (g + 4) k) := xw_I (G.T (by decide)) (G.N (by decide) (by decide)) hk (by decide)
theorem yg12 (G : GS q g) (hk : k < 6) : yI (hw q I L) (some (g + 4)) 20 (nI k) v = some (hw q (ph_u I (g + 4) k v) L) := yw_I (G.T (by decide)) (G.N (by decide) (by decide)) hk (by decide)
theorem gg13 (G : GS q g) : gR (hw q I L) (some g) 1 13 = some (some (g + 5)) := gg_R G (by decide) (by decide)
theorem xg13 (G : GS q g) (hk : k < 6) : xI (hw q I L) (some (g + 5)) 20 (nI k) = some (I (g + 5) k) := xw_I (G.T (by decide)) (G.N (by decide) (by decide)) hk (by decide)
theorem yg13 (G : GS q g) (hk : k < 6) : yI (hw q I L) (some (g + 5)) 20 (nI k) v = some (hw q (ph_u I (g + 5) k v) L) := yw_I (G.T (by decide)) (G.N (by decide) (by decide)) hk (by decide)
theorem gg14 (G : GS q g) : gR (hw q I L) (some g) 1 14 = some (some (g + 6)) := gg_R G (by decide) (by decide)
theorem xg14 (G : GS q g) (hk : k < 6) : xI (hw q I L) (some (g + 6)) 20 (nI k) = some (I (g + 6) k) := xw_I (G.T (by decide)) (G.N (by decide) (by decide)) hk (by decide)
theorem yg14 (G : GS q g) (hk : k < 6) : yI (hw q I L) (some (g + 6)) 20 (nI k) v = some (hw q (ph_u I (g + 6) k v) L) := yw_I (G.T (by decide)) (G.N (by decide) (by decide)) hk (by decide)
theorem gg15 (G : GS q g) : gR (hw q I L) (some g) 1 15 = some (some (g + 7)) := gg_R G (by decide) (by decide)
theorem xg15 (G : GS q g) (hk : k < 36) : xI (hw q I L) (some (g + 7)) 20 (nI k) = some (I (g + 7) k) := xw_I (G.T (by decide)) (G.N (by decide) (by decide)) hk (by decide)
theorem yg15 (G : GS q g) (hk : k < 36) : yI (hw q I L) (some (g + 7)) 20 (nI k) v = some (hw q (ph_u I (g + 7) k v) L) := yw_I (G.T (by decide)) (G.N (by decide) (by decide)) hk (by decide)
theorem gg16 (G : GS q g) : gR (hw q I L) (some g) 1 16 = some (some (g + 8)) := gg_R G (by decide) (by decide)
theorem xg16 (G : GS q g) (hk : k < 8) : xI (hw q I L) (some (g + 8)) 20 (nI k) = some (I (g + 8) k) := xw_I (G.T (by decide)) (G.N (by decide) (by decide)) hk (by decide)
theorem yg16 (G : GS q g) (hk : k < 8) : yI (hw q I L) (some (g + 8)) 20 (nI k) v = some (hw q (ph_u I (g + 8) k v) L) := yw_I (G.T (by decide)) (G.N (by decide) (by decide)) hk (by decide)
theorem gg17 (G : GS q g) : gR (hw q I L) (some g) 1 17 = some (some (g + 9)) := gg_R G (by decide) (by decide)
theorem xg17 (G : GS q g) (hk : k < 8) : xI (hw q I L) (some (g + 9)) 20 (nI k) = some (I (g + 9) k) := xw_I (G.T (by decide)) (G.N (by decide) (by decide)) hk (by decide)
theorem yg17 (G : GS q g) (hk : k < 8) : yI (hw q I L) (some (g + 9)) 20 (nI k) v = some (hw q (ph_u I (g + 9) k v) L) := yw_I (G.T (by decide)) (G.N (by decide) (by decide)) hk (by decide)
theorem gg18 (G : GS q g) : gR (hw q I L) (some g) 1 18 = some (some (g + 10)) := gg_R G (by decide) (by decide)
theorem xg18 (G : GS q g) (hk : k < 20) : xI (hw q I L) (some (g + 10)) 20 (nI k) = some (I (g + 10) k) := xw_I (G.T (by decide)) (G.N (by decide) (by decide)) hk (by decide)
theorem yg18 (G : GS q g) (hk : k < 20) : yI (hw q I L) (some (g + 10)) 20 (nI k) v = some (hw q (ph_u I (g + 10) k v) L) := yw_I (G.T (by decide)) (G.N (by decide) (by decide)) hk (by decide)
theorem gg19 (G : GS q g) : gR (hw q I L) (some g) 1 19 = some (some (g + 11)) := gg_R G (by decide) (by decide)
theorem xg19 (G : GS q g) (hk : k < 28) : xL (hw q I L) (some (g + 11)) 21 (nI k) = some (L (g + 11) k) := xw_L (G.T (by decide)) (G.N (by decide) (by decide)) hk (by decide)
theorem yg19 (G : GS q g) (hk : k < 28) : yL (hw q I L) (some (g + 11)) 21 (nI k) w = some (hw q I (ph_u L (g + 11) k w)) := yw_L (G.T (by decide)) (G.N (by decide) (by decide)) hk (by decide)
theorem gg20 (G : GS q g) : gR (hw q I L) (some g) 1 20 = some (some (g + 12)) := gg_R G (by decide) (by decide)
theorem xg20 (G : GS q g) (hk : k < 560) : xL (hw q I L) (some (g + 12)) 21 (nI k) = some (L (g + 12) k) := xw_L (G.T (by decide)) (G.N (by decide) (by decide)) hk (by decide)
theorem yg20 (G : GS q g) (hk : k < 560) : yL (hw q I L) (some (g + 12)) 21 (nI k) w = some (hw q I (ph_u L (g + 12) k w)) := yw_L (G.T (by decide)) (G.N (by decide) (by decide)) hk (by decide)
theorem gg21 (G : GS q g) : gR (hw q I L) (some g) 1 21 = some (some (g + 13)) := gg_R G (by decide) (by decide)
theorem xg21 (G : GS q g) (hk : k < 400) : xI (hw q I L) (some (g + 13)) 20 (nI k) = some (I (g + 13) k) := xw_I (G.T (by decide)) (G.N (by decide) (by decide)) hk (by decide)
theorem yg21 (G : GS q g) (hk : k < 400) : yI (hw q I L) (some (g + 13)) 20 (nI k) v = some (hw q (ph_u I (g + 13) k v) L) := yw_I (G.T (by decide)) (G.N (by decide) (by decide)) hk (by decide)
theorem dl (G : GS q 66) : dv_ (hw q I L) (some 66) 1 = some 66 := if_pos G.t0
theorem gl_I (G : GS q 66) : gI (hw q I L) (some 66) 1 f = some (I 66 f) := if_pos G.t0
theorem sl_I (G : GS q 66) : sI (hw q I L) (some 66) 1 f v = some (hw q (ph_u I 66 f v) L) := by
  exact if_pos G.t0
theorem gl9 (G : GS q 66) : gR (hw q I L) (some 66) 1 9 = some (some 67) := gg_R G (by decide) (by decide)
theorem xl9 (G : GS q 66) (hk : k < 6) : xI (hw q I L) (some 67) 20 (nI k) = some (I 67 k) := xw_I (G.T (j := 1) (by decide)) (G.N (j := 1) (by decide) (by decide)) hk (by decide)
theorem yl9 (G : GS q 66) (hk : k < 6) : yI (hw q I L) (some 67) 20 (nI k) v = some (hw q (ph_u I 67 k v) L) := yw_I (G.T (j := 1) (by decide)) (G.N (j := 1) (by decide) (by decide)) hk (by decide)
theorem gl10 (G : GS q 66) : gR (hw q I L) (some 66) 1 10 = some (some 68) := gg_R G (by decide) (by decide)
theorem xl10 (G : GS q 66) (hk : k < 6) : xI (hw q I L) (some 68) 20 (nI k) = some (I 68 k) := xw_I (G.T (j := 2) (by decide)) (G.N (j := 2) (by decide) (by decide)) hk (by decide)
theorem yl10 (G : GS q 66) (hk : k < 6) : yI (hw q I L) (some 68) 20 (nI k) v = some (hw q (ph_u I 68 k v) L) := yw_I (G.T (j := 2) (by decide)) (G.N (j := 2) (by decide) (by decide)) hk (by decide)
theorem gl11 (G : GS q 66) : gR (hw q I L) (some 66) 1 11 = some (some 69) := gg_R G (by decide) (by decide)
theorem xl11 (G : GS q 66) (hk : k < 6) : xI (hw q I L) (some 69) 20 (nI k) = some (I 69 k) := xw_I (G.T (j := 3) (by decide)) (G.N (j := 3) (by decide) (by decide)) hk (by decide)
theorem yl11 (G : GS q 66) (hk : k < 6) : yI (hw q I L) (some 69) 20 (nI k) v = some (hw q (ph_u I 69 k v) L) := yw_I (G.T (j := 3) (by decide)) (G.N (j := 3) (by decide) (by decide)) hk (by decide)
theorem gl12 (G : GS q 66) : gR (hw q I L) (some 66) 1 12 = some (some 70) := gg_R G (by decide) (by decide)
theorem xl12 (G : GS q 66) (hk : k < 6) : xI (hw q I L) (some 70) 20 (nI k) = some (I 70 k) := xw_I (G.T (j := 4) (by decide)) (G.N (j := 4) (by decide) (by decide)) hk (by decide)
theorem yl12 (G : GS q 66) (hk : k < 6) : yI (hw q I L) (some 70) 20 (nI k) v = some (hw q (ph_u I 70 k v) L) := yw_I (G.T (j := 4) (by decide)) (G.N (j := 4) (by decide) (by decide)) hk (by decide)
theorem gl13 (G : GS q 66) : gR (hw q I L) (some 66) 1 13 = some (some 71) := gg_R G (by decide) (by decide)
theorem xl13 (G : GS q 66) (hk : k < 6) : xI (hw q I L) (some 71) 20 (nI k) = some (I 71 k) := xw_I (G.T (j := 5) (by decide)) (G.N (j := 5) (by decide) (by decide)) hk (by decide)
theorem yl13 (G : GS q 66) (hk : k < 6) : yI (hw q I L) (some 71) 20 (nI k) v = some (hw q (ph_u I 71 k v) L) := yw_I (G.T (j := 5) (by decide)) (G.N (j := 5) (by decide) (by decide)) hk (by decide)
theorem gl14 (G : GS q 66) : gR (hw q I L) (some 66) 1 14 = some (some 72) := gg_R G (by decide) (by decide)
theorem xl14 (G : GS q 66) (hk : k < 6) : xI (hw q I L) (some 72) 20 (nI k) = some (I 72 k) := xw_I (G.T (j := 6) (by decide)) (G.N (j := 6) (by decide) (by decide)) hk (by decide)
theorem yl14 (G : GS q 66) (hk : k < 6) : yI (hw q I L) (some 72) 20 (nI k) v = some (hw q (ph_u I 72 k v) L) := yw_I (G.T (j := 6) (by decide)) (G.N (j := 6) (by decide) (by decide)) hk (by decide)
theorem gl15 (G : GS q 66) : gR (hw q I L) (some 66) 1 15 = some (some 73) := gg_R G (by decide) (by decide)
theorem xl15 (G : GS q 66) (hk : k < 36) : xI (hw q I L) (some 73) 20 (nI k) = some (I 73 k) := xw_I (G.T (j := 7) (by decide)) (G.N (j := 7) (by decide) (by decide)) hk (by decide)
theorem yl15 (G : GS q 66) (hk : k < 36) : yI (hw q I L) (some 73) 20 (nI k) v = some (hw q (ph_u I 73 k v) L) := yw_I (G.T (j := 7) (by decide)) (G.N (j := 7) (by decide) (by decide)) hk (by decide)
theorem gl16 (G : GS q 66) : gR (hw q I L) (some 66) 1 16 = some (some 74) := gg_R G (by decide) (by decide)
theorem xl16 (G : GS q 66) (hk : k < 8) : xI (hw q I L) (some 74) 20 (nI k) = some (I 74 k) := xw_I (G.T (j := 8) (by decide)) (G.N (j := 8) (by decide) (by decide)) hk (by decide)
theorem yl16 (G : GS q 66) (hk : k < 8) : yI (hw q I L) (some 74) 20 (nI k) v = some (hw q (ph_u I 74 k v) L) := yw_I (G.T (j := 8) (by decide)) (G.N (j := 8) (by decide) (by decide)) hk (by decide)
theorem gl17 (G : GS q 66) : gR (hw q I L) (some 66) 1 17 = some (some 75) := gg_R G (by decide) (by decide)
theorem xl17 (G : GS q 66) (hk : k < 8) : xI (hw q I L) (some 75) 20 (nI k) = some (I 75 k) := xw_I (G.T (j := 9) (by decide)) (G.N (j := 9) (by decide) (by decide)) hk (by decide)
theorem yl17 (G : GS q 66) (hk : k < 8) : yI (hw q I L) (some 75) 20 (nI k) v = some (hw q (ph_u I 75 k v) L) := yw_I (G.T (j := 9) (by decide)) (G.N (j := 9) (by decide) (by decide)) hk (by decide)
theorem gl18 (G : GS q 66) : gR (hw q I L) (some 66) 1 18 = some (some 76) := gg_R G (by decide) (by decide)
theorem xl18 (G : GS q 66) (hk : k < 20) : xI (hw q I L) (some 76) 20 (nI k) = some (I 76 k) := xw_I (G.T (j := 10) (by decide)) (G.N (j := 10) (by decide) (by decide)) hk (by decide)
theorem yl18 (G : GS q 66) (hk : k < 20) : yI (hw q I L) (some 76) 20 (nI k) v = some (hw q (ph_u I 76 k v) L) := yw_I (G.T (j := 10) (by decide)) (G.N (j := 10) (by decide) (by decide)) hk (by decide)
theorem gl19 (G : GS q 66) : gR (hw q I L) (some 66) 1 19 = some (some 77) := gg_R G (by decide) (by decide)
theorem xl19 (G : GS q 66) (hk : k < 28) : xL (hw q I L) (some 77) 21 (nI k) = some (L 77 k) := xw_L (G.T (j := 11) (by decide)) (G.N (j := 11) (by decide) (by decide)) hk (by decide)
theorem yl19 (G : GS q 66) (hk : k < 28) : yL (hw q I L) (some 77) 21 (nI k) w = some (hw q I (ph_u L 77 k w)) := yw_L (G.T (j := 11) (by decide)) (G.N (j := 11) (by decide) (by decide)) hk (by decide)
theorem gl20 (G : GS q 66) : gR (hw q I L) (some 66) 1 20 = some (some 78) := gg_R G (by decide) (by decide)
theorem xl20 (G : GS q 66) (hk : k < 560) : xL (hw q I L) (some 78) 21 (nI k) = some (L 78 k) := xw_L (G.T (j := 12) (by decide)) (G.N (j := 12) (by decide) (by decide)) hk (by decide)
theorem yl20 (G : GS q 66) (hk : k < 560) : yL (hw q I L) (some 78) 21 (nI k) w = some (hw q I (ph_u L 78 k w)) := yw_L (G.T (j := 12) (by decide)) (G.N (j := 12) (by decide) (by decide)) hk (by decide)
theorem gl21 (G : GS q 66) : gR (hw q I L) (some 66) 1 21 = some (some 79) := gg_R G (by decide) (by decide)
theorem xl21 (G : GS q 66) (hk : k < 400) : xI (hw q I L) (some 79) 20 (nI k) = some (I 79 k) := xw_I (G.T (j := 13) (by decide)) (G.N (j := 13) (by decide) (by decide)) hk (by decide)
theorem yl21 (G : GS q 66) (hk : k < 400) : yI (hw q I L) (some 79) 20 (nI k) v = some (hw q (ph_u I 79 k v) L) := yw_I (G.T (j := 13) (by decide)) (G.N (j := 13) (by decide) (by decide)) hk (by decide)
theorem dx (X : XS q) : dv_ (hw q I L) (some 64) 0 = some 64 := if_pos X.1
theorem gx_I (X : XS q) : gI (hw q I L) (some 64) 0 f = some (I 64 f) := if_pos X.1
theorem sx_I (X : XS q) : sI (hw q I L) (some 64) 0 f v = some (hw q (ph_u I 64 f v) L) := by
  exact if_pos X.1
theorem gx_R (X : XS q) (b : Nat) (h : (f, b) ∈ xfd) : gR (hw q I L) (some 64) 0 f = some (some b) := by
  refine (if_pos X.1).trans ?_
  exact congrArg some (X.2.2.2.1 _ h)
theorem gx_r (X : XS q) : gR (hw q I L) (some 64) 0 f = some (ph_R q 64 f) := if_pos X.1
theorem XS.land (X : XS q) : GS q 66 := X.2.2.2.2.1
theorem XS.spare (X : XS q) : GS q 80 := X.2.2.2.2.2.1
theorem XS.read (X : XS q) : GS q 94 := X.2.2.2.2.2.2.1
theorem XS.blank (X : XS q) : GS q 108 := X.2.2.2.2.2.2.2
theorem XS.A (X : XS q) {a t n : Nat} (h : (a, t, n) ∈ xtl) : ph_T q a = t ∧ ph_N q a = n := X.2.2.1 _ h
theorem gx2 (X : XS q) (h : ph_R q 64 2 = some 66) : gR (hw q I L) (some 64) 0 2 = some (some 66) := by rw [gx_r X, h]
theorem gx2n (X : XS q) (h : ph_R q 64 2 = none) : gR (hw q I L) (some 64) 0 2 = some none := by rw [gx_r X, h]
theorem gx0 (X : XS q) : gR (hw q I L) (some 64) 0 0 = some (some 65) := gx_R X 65 (by decide)
theorem xx65 (X : XS q) (hk : k < 96) : xL (hw q I L) (some 65) 21 (nI k) = some (L 65 k) := xw_L (X.A (t := 21) (n := 96) (by decide)).1 (X.A (t := 21) (n := 96) (by decide)).2 hk (by decide)
theorem yx65 (X : XS q) (hk : k < 96) : yL (hw q I L) (some 65) 21 (nI k) w = some (hw q I (ph_u L 65 k w)) := yw_L (X.A (t := 21) (n := 96) (by decide)).1 (X.A (t := 21) (n := 96) (by decide)).2 hk (by decide)
theorem gx9 (X : XS q) : gR (hw q I L) (some 64) 0 9 = some (some 123) := gx_R X 123 (by decide)
theorem xx123 (X : XS q) (hk : k < 400) : xI (hw q I L) (some 123) 22 (nI k) = some (I 123 k) := xw_I (X.A (t := 22) (n := 400) (by decide)).1 (X.A (t := 22) (n := 400) (by decide)).2 hk (by decide)
theorem yx123 (X : XS q) (hk : k < 400) : yI (hw q I L) (some 123) 22 (nI k) v = some (hw q (ph_u I 123 k v) L) := yw_I (X.A (t := 22) (n := 400) (by decide)).1 (X.A (t := 22) (n := 400) (by decide)).2 hk (by decide)
theorem gx11 (X : XS q) : gR (hw q I L) (some 64) 0 11 = some (some 124) := gx_R X 124 (by decide)
theorem gx12 (X : XS q) : gR (hw q I L) (some 64) 0 12 = some (some 125) := gx_R X 125 (by decide)
theorem gx13 (X : XS q) : gR (hw q I L) (some 64) 0 13 = some (some 126) := gx_R X 126 (by decide)
theorem gx14 (X : XS q) : gR (hw q I L) (some 64) 0 14 = some (some 127) := gx_R X 127 (by decide)
theorem gx16 (X : XS q) : gR (hw q I L) (some 64) 0 16 = some (some 128) := gx_R X 128 (by decide)
theorem xx128 (X : XS q) (hk : k < 10) : xL (hw q I L) (some 128) 21 (nI k) = some (L 128 k) := xw_L (X.A (t := 21) (n := 10) (by decide)).1 (X.A (t := 21) (n := 10) (by decide)).2 hk (by decide)
theorem yx128 (X : XS q) (hk : k < 10) : yL (hw q I L) (some 128) 21 (nI k) w = some (hw q I (ph_u L 128 k w)) := yw_L (X.A (t := 21) (n := 10) (by decide)).1 (X.A (t := 21) (n := 10) (by decide)).2 hk (by decide)
theorem gx17 (X : XS q) : gR (hw q I L) (some 64) 0 17 = some (some 129) := gx_R X 129 (by decide)
theorem xx129 (X : XS q) (hk : k < 4) : xI (hw q I L) (some 129) 20 (nI k) = some (I 129 k) := xw_I (X.A (t := 20) (n := 4) (by decide)).1 (X.A (t := 20) (n := 4) (by decide)).2 hk (by decide)
theorem yx129 (X : XS q) (hk : k < 4) : yI (hw q I L) (some 129) 20 (nI k) v = some (hw q (ph_u I 129 k v) L) := yw_I (X.A (t := 20) (n := 4) (by decide)).1 (X.A (t := 20) (n := 4) (by decide)).2 hk (by decide)
theorem gx19 (X : XS q) : gR (hw q I L) (some 64) 0 19 = some (some 130) := gx_R X 130 (by decide)
theorem xx130 (X : XS q) (hk : k < 8) : xI (hw q I L) (some 130) 20 (nI k) = some (I 130 k) := xw_I (X.A (t := 20) (n := 8) (by decide)).1 (X.A (t := 20) (n := 8) (by decide)).2 hk (by decide)
theorem yx130 (X : XS q) (hk : k < 8) : yI (hw q I L) (some 130) 20 (nI k) v = some (hw q (ph_u I 130 k v) L) := yw_I (X.A (t := 20) (n := 8) (by decide)).1 (X.A (t := 20) (n := 8) (by decide)).2 hk (by decide)
theorem gx20 (X : XS q) : gR (hw q I L) (some 64) 0 20 = some (some 131) := gx_R X 131 (by decide)
theorem xx131 (X : XS q) (hk : k < 8) : xI (hw q I L) (some 131) 20 (nI k) = some (I 131 k) := xw_I (X.A (t := 20) (n := 8) (by decide)).1 (X.A (t := 20) (n := 8) (by decide)).2 hk (by decide)
theorem yx131 (X : XS q) (hk : k < 8) : yI (hw q I L) (some 131) 20 (nI k) v = some (hw q (ph_u I 131 k v) L) := yw_I (X.A (t := 20) (n := 8) (by decide)).1 (X.A (t := 20) (n := 8) (by decide)).2 hk (by decide)
theorem gx21 (X : XS q) : gR (hw q I L) (some 64) 0 21 = some (some 132) := gx_R X 132 (by decide)
theorem xx132 (X : XS q) (hk : k < 16) : xL (hw q I L) (some 132) 21 (nI k) = some (L 132 k) := xw_L (X.A (t := 21) (n := 16) (by decide)).1 (X.A (t := 21) (n := 16) (by decide)).2 hk (by decide)
theorem yx132 (X : XS q) (hk : k < 16) : yL (hw q I L) (some 132) 21 (nI k) w = some (hw q I (ph_u L 132 k w)) := yw_L (X.A (t := 21) (n := 16) (by decide)).1 (X.A (t := 21) (n := 16) (by decide)).2 hk (by decide)
theorem gx23 (X : XS q) : gR (hw q I L) (some 64) 0 23 = some (some 133) := gx_R X 133 (by decide)
theorem xx133 (X : XS q) (hk : k < 384) : xI (hw q I L) (some 133) 20 (nI k) = some (I 133 k) := xw_I (X.A (t := 20) (n := 384) (by decide)).1 (X.A (t := 20) (n := 384) (by decide)).2 hk (by decide)
theorem yx133 (X : XS q) (hk : k < 384) : yI (hw q I L) (some 133) 20 (nI k) v = some (hw q (ph_u I 133 k v) L) := yw_I (X.A (t := 20) (n := 384) (by decide)).1 (X.A (t := 20) (n := 384) (by decide)).2 hk (by decide)
theorem gx24 (X : XS q) : gR (hw q I L) (some 64) 0 24 = some (some 134) := gx_R X 134 (by decide)
theorem xx134 (X : XS q) (hk : k < 256) : xI (hw q I L) (some 134) 20 (nI k) = some (I 134 k) := xw_I (X.A (t := 20) (n := 256) (by decide)).1 (X.A (t := 20) (n := 256) (by decide)).2 hk (by decide)
theorem yx134 (X : XS q) (hk : k < 256) : yI (hw q I L) (some 134) 20 (nI k) v = some (hw q (ph_u I 134 k v) L) := yw_I (X.A (t := 20) (n := 256) (by decide)).1 (X.A (t := 20) (n := 256) (by decide)).2 hk (by decide)
theorem gx29 (X : XS q) : gR (hw q I L) (some 64) 0 29 = some (some 135) := gx_R X 135 (by decide)
theorem gx3 (X : XS q) : gR (hw q I L) (some 64) 0 3 = some (some 66) := gx_R X 66 (by decide)
theorem gx4 (X : XS q) : gR (hw q I L) (some 64) 0 4 = some (some 80) := gx_R X 80 (by decide)
theorem gx5 (X : XS q) : gR (hw q I L) (some 64) 0 5 = some (some 94) := gx_R X 94 (by decide)
theorem gx6 (X : XS q) : gR (hw q I L) (some 64) 0 6 = some (some 108) := gx_R X 108 (by decide)
theorem gx8 (X : XS q) : gR (hw q I L) (some 64) 0 8 = some (some 122) := gx_R X 122 (by decide)
theorem nq_66 {T : Type} {a b : Option T} : nq_ (some 66) a b = b := (if_pos (by decide) : (if 64 ≤ 66 then b else none) = b)
theorem nq_0 {T : Type} {a b : Option T} : nq_ none a b = a := rfl
end BSH
