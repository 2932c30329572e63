noncomputable def mL_law_p1484 (k18 : Wd → (Option Nat) → (Option Nat) → (Option Nat) → Int32 → Option (Unit × Wd)) (w : Wd) (l0 : Option Nat) (l1 : Option Nat) (l2 : Option Nat) (l3 : Int32) (t0 : Int32) (t1 : Option Nat) (t2 : Int32) : Option (Unit × Wd) :=
(recv w t1 2).bind fun b2 => (cal w (mX2_mean b2 t0 w)).bind fun r1 =>
if t2 = r1.1 then (
k18 r1.2 l0 l1 l2 (l3 + 6))
else (
none)
noncomputable def mL_law_p1467 (k18 : Wd → (Option Nat) → (Option Nat) → (Option Nat) → Int32 → Option (Unit × Wd)) (w : Wd) (l0 : Option Nat) (l1 : Option Nat) (l2 : Option Nat) (l3 : Int32) (t0 : Int32) (t1 : Option Nat) : Option (Unit × Wd) :=
(recv w t1 0).bind fun b2 => (cal w (mX0_mean b2 t0 w)).bind fun r1 =>
(ia r1.2 l0 (l3 + 1)).bind fun v3 =>
if v3 = 0 then (
mL_law_p1484 k18 r1.2 l0 l1 l2 l3 0 l2 r1.1)
else (
mL_law_p1484 k18 r1.2 l0 l1 l2 l3 1 l2 r1.1)
noncomputable def mL_law_p1388 (k18 : Wd → (Option Nat) → (Option Nat) → (Option Nat) → Int32 → Option (Unit × Wd)) (w : Wd) (l0 : Option Nat) (l1 : Option Nat) (l2 : Option Nat) (l3 : Int32) (t0 : Int32) (t1 : Option Nat) (t2 : Int64) : Option (Unit × Wd) :=
(recv w t1 2).bind fun b2 => (cal w (mX2_left b2 t0 w)).bind fun r1 =>
if (lg_cmp t2 r1.1) = 0 then (
k18 r1.2 l0 l1 l2 (l3 + 6))
else (
none)
noncomputable def mL_law_p1371 (k18 : Wd → (Option Nat) → (Option Nat) → (Option Nat) → Int32 → Option (Unit × Wd)) (w : Wd) (l0 : Option Nat) (l1 : Option Nat) (l2 : Option Nat) (l3 : Int32) (t0 : Int32) (t1 : Option Nat) : Option (Unit × Wd) :=
(recv w t1 0).bind fun b2 => (cal w (mX0_left b2 t0 w)).bind fun r1 =>
(ia r1.2 l0 (l3 + 1)).bind fun v3 =>
if v3 = 0 then (
mL_law_p1388 k18 r1.2 l0 l1 l2 l3 0 l2 r1.1)
else (
mL_law_p1388 k18 r1.2 l0 l1 l2 l3 1 l2 r1.1)
noncomputable def mL_law_p1349 (k18 : Wd → (Option Nat) → (Option Nat) → (Option Nat) → Int32 → Option (Unit × Wd)) (w : Wd) (l0 : Option Nat) (l1 : Option Nat) (l2 : Option Nat) (l3 : Int32) (t0 : Int32) (t1 : Int32) (t2 : Option Nat) (t3 : Int32) : Option (Unit × Wd) :=
(recv w t2 2).bind fun b2 => (cal w (mX2_said b2 t1 t0 w)).bind fun r1 =>
if t3 = r1.1 then (
k18 r1.2 l0 l1 l2 (l3 + 6))
else (
none)
noncomputable def mL_law_p1327 (k18 : Wd → (Option Nat) → (Option Nat) → (Option Nat) → Int32 → Option (Unit × Wd)) (w : Wd) (l0 : Option Nat) (l1 : Option Nat) (l2 : Option Nat) (l3 : Int32) (t0 : Int32) (t1 : Int32) (t2 : Option Nat) : Option (Unit × Wd) :=
(recv w t2 0).bind fun b2 => (cal w (mX0_said b2 t1 t0 w)).bind fun r1 =>
(ia r1.2 l0 (l3 + 1)).bind fun v3 =>
(ia r1.2 l0 (l3 + 2)).bind fun v4 =>
if v4 = 0 then (
mL_law_p1349 k18 r1.2 l0 l1 l2 l3 0 v3 l2 r1.1)
else (
mL_law_p1349 k18 r1.2 l0 l1 l2 l3 1 v3 l2 r1.1)
noncomputable def mL_law_p1198 (k18 : Wd → (Option Nat) → (Option Nat) → (Option Nat) → Int32 → Option (Unit × Wd)) (w : Wd) (l0 : Option Nat) (l1 : Option Nat) (l2 : Option Nat) (l3 : Int32) (t0 : Int32) (t1 : Int32) (t2 : Option Nat) (t3 : Int32) : Option (Unit × Wd) :=
(recv w t2 2).bind fun b2 => (cal w (mX2_barred b2 t1 t0 w)).bind fun r1 =>
if t3 = r1.1 then (
k18 r1.2 l0 l1 l2 (l3 + 6))
else (
none)
noncomputable def mL_law_p1176 (k18 : Wd → (Option Nat) → (Option Nat) → (Option Nat) → Int32 → Option (Unit × Wd)) (w : Wd) (l0 : Option Nat) (l1 : Option Nat) (l2 : Option Nat) (l3 : Int32) (t0 : Int32) (t1 : Int32) (t2 : Option Nat) : Option (Unit × Wd) :=
(recv w t2 0).bind fun b2 => (cal w (mX0_barred b2 t1 t0 w)).bind fun r1 =>
(ia r1.2 l0 (l3 + 1)).bind fun v3 =>
(ia r1.2 l0 (l3 + 2)).bind fun v4 =>
if v4 = 0 then (
mL_law_p1198 k18 r1.2 l0 l1 l2 l3 0 v3 l2 r1.1)
else (
mL_law_p1198 k18 r1.2 l0 l1 l2 l3 1 v3 l2 r1.1)
noncomputable def mL_law_p924 (k18 : Wd → (Option Nat) → (Option Nat) → (Option Nat) → Int32 → Option (Unit × Wd)) (w : Wd) (l0 : Option Nat) (l1 : Option Nat) (l2 : Option Nat) (l3 : Int32) (t0 : Int32) (t1 : Int32) (t2 : Int32) (t3 : Option Nat) (t4 : Int64) : Option (Unit × Wd) :=
(recv w t3 2).bind fun b2 => (cal w (mX2_calm b2 t2 t1 t0 w)).bind fun r1 =>
if (lg_cmp t4 r1.1) = 0 then (
k18 r1.2 l0 l1 l2 (l3 + 6))
else (
none)
noncomputable def mL_law_p897 (k18 : Wd → (Option Nat) → (Option Nat) → (Option Nat) → Int32 → Option (Unit × Wd)) (w : Wd) (l0 : Option Nat) (l1 : Option Nat) (l2 : Option Nat) (l3 : Int32) (t0 : Int32) (t1 : Int32) (t2 : Int32) (t3 : Option Nat) : Option (Unit × Wd) :=
(recv w t3 0).bind fun b2 => (cal w (mX0_calm b2 t2 t1 t0 w)).bind fun r1 =>
(ia r1.2 l0 (l3 + 1)).bind fun v3 =>
(ia r1.2 l0 (l3 + 2)).bind fun v4 =>
(ia r1.2 l0 (l3 + 3)).bind fun v5 =>
if v5 = 0 then (
mL_law_p924 k18 r1.2 l0 l1 l2 l3 0 v4 v3 l2 r1.1)
else (
mL_law_p924 k18 r1.2 l0 l1 l2 l3 1 v4 v3 l2 r1.1)
noncomputable def mL_law_p791 (k18 : Wd → (Option Nat) → (Option Nat) → (Option Nat) → Int32 → Option (Unit × Wd)) (w : Wd) (l0 : Option Nat) (l1 : Option Nat) (l2 : Option Nat) (l3 : Int32) (t0 : Int32) (t1 : Int32) (t2 : Option Nat) (t3 : Int32) : Option (Unit × Wd) :=
(ia w l0 (l3 + 3)).bind fun v1 =>
(recv w t2 2).bind fun b3 => (cal w (mX2_foretold b3 t1 t0 v1 w)).bind fun r2 =>
if t3 = r2.1 then (
k18 r2.2 l0 l1 l2 (l3 + 6))
else (
none)
noncomputable def mL_law_p764 (k18 : Wd → (Option Nat) → (Option Nat) → (Option Nat) → Int32 → Option (Unit × Wd)) (w : Wd) (l0 : Option Nat) (l1 : Option Nat) (l2 : Option Nat) (l3 : Int32) (t0 : Int32) (t1 : Int32) (t2 : Option Nat) : Option (Unit × Wd) :=
(ia w l0 (l3 + 3)).bind fun v1 =>
(recv w t2 0).bind fun b3 => (cal w (mX0_foretold b3 t1 t0 v1 w)).bind fun r2 =>
(ia r2.2 l0 (l3 + 1)).bind fun v4 =>
(ia r2.2 l0 (l3 + 2)).bind fun v5 =>
if v5 = 0 then (
mL_law_p791 k18 r2.2 l0 l1 l2 l3 0 v4 l2 r2.1)
else (
mL_law_p791 k18 r2.2 l0 l1 l2 l3 1 v4 l2 r2.1)
noncomputable def mL_law_b18 (k18 : Wd → (Option Nat) → (Option Nat) → (Option Nat) → Int32 → Option (Unit × Wd)) (w : Wd) (l0 : Option Nat) (l1 : Option Nat) (l2 : Option Nat) (l3 : Int32) : Option (Unit × Wd) :=
(alen w l0).bind fun v1 =>
if (v1 - 6) < l3 then (
fin9 w)
else (
(ia w l0 l3).bind fun v2 =>
if (v2 &&& 63) = 0 then (
(ia w l0 (l3 + 1)).bind fun v3 =>
(ia w l0 (l3 + 2)).bind fun v4 =>
(ia w l0 (l3 + 3)).bind fun v5 =>
(ia w l0 (l3 + 4)).bind fun v6 =>
(ia w l0 (l3 + 5)).bind fun v7 =>
(recv w l1 0).bind fun b9 => (cal w (mX0_order b9 v3 v4 v5 v6 v7 w)).bind fun r8 =>
(ia r8.2 l0 (l3 + 1)).bind fun v10 =>
(ia r8.2 l0 (l3 + 2)).bind fun v11 =>
(ia r8.2 l0 (l3 + 3)).bind fun v12 =>
(ia r8.2 l0 (l3 + 4)).bind fun v13 =>
(ia r8.2 l0 (l3 + 5)).bind fun v14 =>
(recv r8.2 l2 2).bind fun b16 => (cal r8.2 (mX2_order b16 v10 v11 v12 v13 v14 r8.2)).bind fun r15 =>
if r8.1 = r15.1 then (
k18 r15.2 l0 l1 l2 (l3 + 6))
else (
none))
else (
if (v2 &&& 63) = 1 then (
(ia w l0 (l3 + 1)).bind fun v17 =>
(recv w l1 0).bind fun b19 => (cal w (mX0_near b19 v17 w)).bind fun r18 =>
(ia r18.2 l0 (l3 + 1)).bind fun v20 =>
(recv r18.2 l2 2).bind fun b22 => (cal r18.2 (mX2_near b22 v20 r18.2)).bind fun r21 =>
if r18.1 = r21.1 then (
k18 r21.2 l0 l1 l2 (l3 + 6))
else (
none))
else (
if (v2 &&& 63) = 2 then (
(ia w l0 (l3 + 1)).bind fun v23 =>
(ia w l0 (l3 + 2)).bind fun v24 =>
(ia w l0 (l3 + 3)).bind fun v25 =>
(ia w l0 (l3 + 4)).bind fun v26 =>
(ia w l0 (l3 + 5)).bind fun v27 =>
(recv w l1 0).bind fun b29 => (cal w (mX0_feed b29 v23 v24 v25 v26 v27 w)).bind fun r28 =>
(ia r28.2 l0 (l3 + 1)).bind fun v30 =>
(ia r28.2 l0 (l3 + 2)).bind fun v31 =>
(ia r28.2 l0 (l3 + 3)).bind fun v32 =>
(ia r28.2 l0 (l3 + 4)).bind fun v33 =>
(ia r28.2 l0 (l3 + 5)).bind fun v34 =>
(recv r28.2 l2 2).bind fun b36 => (cal r28.2 (mX2_feed b36 v30 v31 v32 v33 v34 r28.2)).bind fun r35 =>
if r28.1 = r35.1 then (
k18 r35.2 l0 l1 l2 (l3 + 6))
else (
none))
else (
if (v2 &&& 63) = 3 then (
(ia w l0 (l3 + 1)).bind fun v37 =>
(recv w l1 0).bind fun b39 => (cal w (mX0_end b39 v37 w)).bind fun r38 =>
(ia r38.2 l0 (l3 + 1)).bind fun v40 =>
(recv r38.2 l2 2).bind fun b42 => (cal r38.2 (mX2_end b42 v40 r38.2)).bind fun r41 =>
if r38.1 = r41.1 then (
k18 r41.2 l0 l1 l2 (l3 + 6))
else (
none))
else (
if (v2 &&& 63) = 4 then (
(recv w l1 0).bind fun b44 => (cal w (mX0_text b44 w)).bind fun r43 =>
(recv r43.2 l2 2).bind fun b46 => (cal r43.2 (mX2_text b46 r43.2)).bind fun r45 =>
if r43.1 = r45.1 then (
k18 r45.2 l0 l1 l2 (l3 + 6))
else (
none))
else (
if (v2 &&& 63) = 5 then (
(ia w l0 (l3 + 1)).bind fun v47 =>
(recv w l1 0).bind fun b49 => (cal w (mX0_fault b49 v47 w)).bind fun r48 =>
(ia r48.2 l0 (l3 + 1)).bind fun v50 =>
(recv r48.2 l2 2).bind fun b52 => (cal r48.2 (mX2_fault b52 v50 r48.2)).bind fun r51 =>
if r48.1 = r51.1 then (
k18 r51.2 l0 l1 l2 (l3 + 6))
else (
none))
else (
if (v2 &&& 63) = 6 then (
(ia w l0 (l3 + 1)).bind fun v53 =>
(recv w l1 0).bind fun b55 => (cal w (mX0_by b55 v53 w)).bind fun r54 =>
(ia r54.2 l0 (l3 + 1)).bind fun v56 =>
(recv r54.2 l2 2).bind fun b58 => (cal r54.2 (mX2_by b58 v56 r54.2)).bind fun r57 =>
if r54.1 = r57.1 then (
k18 r57.2 l0 l1 l2 (l3 + 6))
else (
none))
else (
if (v2 &&& 63) = 7 then (
(ia w l0 (l3 + 1)).bind fun v59 =>
(recv w l1 0).bind fun b61 => (cal w (mX0_move b61 v59 w)).bind fun r60 =>
(ia r60.2 l0 (l3 + 1)).bind fun v62 =>
(recv r60.2 l2 2).bind fun b64 => (cal r60.2 (mX2_move b64 v62 r60.2)).bind fun r63 =>
if r60.1 = r63.1 then (
k18 r63.2 l0 l1 l2 (l3 + 6))
else (
none))
else (
if (v2 &&& 63) = 8 then (
(ia w l0 (l3 + 1)).bind fun v65 =>
(recv w l1 0).bind fun b67 => (cal w (mX0_run b67 v65 w)).bind fun r66 =>
(ia r66.2 l0 (l3 + 1)).bind fun v68 =>
(recv r66.2 l2 2).bind fun b70 => (cal r66.2 (mX2_run b70 v68 r66.2)).bind fun r69 =>
if r66.1 = r69.1 then (
k18 r69.2 l0 l1 l2 (l3 + 6))
else (
none))
else (
if (v2 &&& 63) = 9 then (
(ia w l0 (l3 + 1)).bind fun v71 =>
(recv w l1 0).bind fun b73 => (cal w (mX0_hoist b73 v71 w)).bind fun r72 =>
(ia r72.2 l0 (l3 + 1)).bind fun v74 =>
(recv r72.2 l2 2).bind fun b76 => (cal r72.2 (mX2_hoist b76 v74 r72.2)).bind fun r75 =>
if r72.1 = r75.1 then (
k18 r75.2 l0 l1 l2 (l3 + 6))
else (
none))
else (
if (v2 &&& 63) = 10 then (
(ia w l0 (l3 + 1)).bind fun v77 =>
(recv w l1 0).bind fun b79 => (cal w (mX0_aim b79 v77 w)).bind fun r78 =>
(ia r78.2 l0 (l3 + 1)).bind fun v80 =>
(recv r78.2 l2 2).bind fun b82 => (cal r78.2 (mX2_aim b82 v80 r78.2)).bind fun r81 =>
if r78.1 = r81.1 then (
k18 r81.2 l0 l1 l2 (l3 + 6))
else (
none))
else (
if (v2 &&& 63) = 11 then (
(ia w l0 (l3 + 1)).bind fun v83 =>
(recv w l1 0).bind fun b85 => (cal w (mX0_hook b85 v83 w)).bind fun r84 =>
(ia r84.2 l0 (l3 + 1)).bind fun v86 =>
(recv r84.2 l2 2).bind fun b88 => (cal r84.2 (mX2_hook b88 v86 r84.2)).bind fun r87 =>
if r84.1 = r87.1 then (
k18 r87.2 l0 l1 l2 (l3 + 6))
else (
none))
else (
if (v2 &&& 63) = 12 then (
(recv w l1 0).bind fun b90 => (cal w (mX0_land b90 w)).bind fun r89 =>
(recv r89.2 l2 2).bind fun b92 => (cal r89.2 (mX2_land b92 r89.2)).bind fun r91 =>
if r89.1 = r91.1 then (
k18 r91.2 l0 l1 l2 (l3 + 6))
else (
none))
else (
if (v2 &&& 63) = 13 then (
(ia w l0 (l3 + 1)).bind fun v93 =>
(recv w l1 0).bind fun b95 => (cal w (mX0_played b95 v93 w)).bind fun r94 =>
(ia r94.2 l0 (l3 + 1)).bind fun v96 =>
(recv r94.2 l2 2).bind fun b98 => (cal r94.2 (mX2_played b98 v96 r94.2)).bind fun r97 =>
if r94.1 = r97.1 then (
k18 r97.2 l0 l1 l2 (l3 + 6))
else (
none))
else (
if (v2 &&& 63) = 14 then (
(ia w l0 (l3 + 1)).bind fun v99 =>
(ia w l0 (l3 + 2)).bind fun v100 =>
(recv w l1 0).bind fun b102 => (cal w (mX0_storm b102 v99 v100 w)).bind fun r101 =>
(ia r101.2 l0 (l3 + 1)).bind fun v103 =>
(ia r101.2 l0 (l3 + 2)).bind fun v104 =>
(recv r101.2 l2 2).bind fun b106 => (cal r101.2 (mX2_storm b106 v103 v104 r101.2)).bind fun r105 =>
if r101.1 = r105.1 then (
k18 r105.2 l0 l1 l2 (l3 + 6))
else (
none))
else (
if (v2 &&& 63) = 15 then (
(recv w l1 0).bind fun b108 => (cal w (mX0_undo b108 w)).bind fun r107 =>
(recv r107.2 l2 2).bind fun b110 => (cal r107.2 (mX2_undo b110 r107.2)).bind fun r109 =>
if r107.1 = r109.1 then (
k18 r109.2 l0 l1 l2 (l3 + 6))
else (
none))
else (
if (v2 &&& 63) = 16 then (
(ia w l0 (l3 + 1)).bind fun v111 =>
(recv w l1 0).bind fun b113 => (cal w (mX0_jib b113 v111 w)).bind fun r112 =>
(ia r112.2 l0 (l3 + 1)).bind fun v114 =>
(recv r112.2 l2 2).bind fun b116 => (cal r112.2 (mX2_jib b116 v114 r112.2)).bind fun r115 =>
if r112.1 = r115.1 then (
k18 r115.2 l0 l1 l2 (l3 + 6))
else (
none))
else (
if (v2 &&& 63) = 17 then (
(ia w l0 (l3 + 1)).bind fun v117 =>
(ia w l0 (l3 + 2)).bind fun v118 =>
(recv w l1 0).bind fun b120 => (cal w (mX0_ofOrder b120 v117 v118 w)).bind fun r119 =>
(ia r119.2 l0 (l3 + 1)).bind fun v121 =>
(ia r119.2 l0 (l3 + 2)).bind fun v122 =>
(recv r119.2 l2 2).bind fun b124 => (cal r119.2 (mX2_ofOrder b124 v121 v122 r119.2)).bind fun r123 =>
if r119.1 = r123.1 then (
k18 r123.2 l0 l1 l2 (l3 + 6))
else (
none))
else (
if (v2 &&& 63) = 18 then (
(ia w l0 (l3 + 1)).bind fun v125 =>
(ia w l0 (l3 + 2)).bind fun v126 =>
(recv w l1 0).bind fun b128 => (cal w (mX0_ago b128 v125 v126 w)).bind fun r127 =>
(ia r127.2 l0 (l3 + 1)).bind fun v129 =>
(ia r127.2 l0 (l3 + 2)).bind fun v130 =>
(recv r127.2 l2 2).bind fun b132 => (cal r127.2 (mX2_ago b132 v129 v130 r127.2)).bind fun r131 =>
if r127.1 = r131.1 then (
k18 r131.2 l0 l1 l2 (l3 + 6))
else (
none))
else (
if (v2 &&& 63) = 19 then (
(ia w l0 (l3 + 1)).bind fun v133 =>
(ia w l0 (l3 + 2)).bind fun v134 =>
if v134 = 0 then (
mL_law_p764 k18 w l0 l1 l2 l3 0 v133 l1)
else (
mL_law_p764 k18 w l0 l1 l2 l3 1 v133 l1))
else (
if (v2 &&& 63) = 20 then (
(ia w l0 (l3 + 1)).bind fun v135 =>
(recv w l1 0).bind fun b137 => (cal w (mX0_soonest b137 v135 w)).bind fun r136 =>
(ia r136.2 l0 (l3 + 1)).bind fun v138 =>
(recv r136.2 l2 2).bind fun b140 => (cal r136.2 (mX2_soonest b140 v138 r136.2)).bind fun r139 =>
if r136.1 = r139.1 then (
k18 r139.2 l0 l1 l2 (l3 + 6))
else (
none))
else (
if (v2 &&& 63) = 21 then (
(ia w l0 (l3 + 1)).bind fun v141 =>
(recv w l1 0).bind fun b143 => (cal w (mX0_fewest b143 v141 w)).bind fun r142 =>
(ia r142.2 l0 (l3 + 1)).bind fun v144 =>
(recv r142.2 l2 2).bind fun b146 => (cal r142.2 (mX2_fewest b146 v144 r142.2)).bind fun r145 =>
if r142.1 = r145.1 then (
k18 r145.2 l0 l1 l2 (l3 + 6))
else (
none))
else (
if (v2 &&& 63) = 22 then (
(ia w l0 (l3 + 1)).bind fun v147 =>
(recv w l1 0).bind fun b149 => (cal w (mX0_toAndFro b149 v147 w)).bind fun r148 =>
(ia r148.2 l0 (l3 + 1)).bind fun v150 =>
(recv r148.2 l2 2).bind fun b152 => (cal r148.2 (mX2_toAndFro b152 v150 r148.2)).bind fun r151 =>
if r148.1 = r151.1 then (
k18 r151.2 l0 l1 l2 (l3 + 6))
else (
none))
else (
if (v2 &&& 63) = 23 then (
(ia w l0 (l3 + 1)).bind fun v153 =>
(ia w l0 (l3 + 2)).bind fun v154 =>
(ia w l0 (l3 + 3)).bind fun v155 =>
if v155 = 0 then (
mL_law_p897 k18 w l0 l1 l2 l3 0 v154 v153 l1)
else (
mL_law_p897 k18 w l0 l1 l2 l3 1 v154 v153 l1))
else (
if (v2 &&& 63) = 24 then (
(ia w l0 (l3 + 1)).bind fun v156 =>
(ia w l0 (l3 + 2)).bind fun v157 =>
(recv w l1 0).bind fun b159 => (cal w (mX0_dies b159 v156 v157 w)).bind fun r158 =>
(ia r158.2 l0 (l3 + 1)).bind fun v160 =>
(ia r158.2 l0 (l3 + 2)).bind fun v161 =>
(recv r158.2 l2 2).bind fun b163 => (cal r158.2 (mX2_dies b163 v160 v161 r158.2)).bind fun r162 =>
if r158.1 = r162.1 then (
k18 r162.2 l0 l1 l2 (l3 + 6))
else (
none))
else (
if (v2 &&& 63) = 25 then (
(ia w l0 (l3 + 1)).bind fun v164 =>
(recv w l1 0).bind fun b166 => (cal w (mX0_calmest b166 v164 w)).bind fun r165 =>
(ia r165.2 l0 (l3 + 1)).bind fun v167 =>
(recv r165.2 l2 2).bind fun b169 => (cal r165.2 (mX2_calmest b169 v167 r165.2)).bind fun r168 =>
if r165.1 = r168.1 then (
k18 r168.2 l0 l1 l2 (l3 + 6))
else (
none))
else (
if (v2 &&& 63) = 26 then (
(recv w l1 0).bind fun b171 => (cal w (mX0_whoseHand b171 w)).bind fun r170 =>
(recv r170.2 l2 2).bind fun b173 => (cal r170.2 (mX2_whoseHand b173 r170.2)).bind fun r172 =>
if r170.1 = r172.1 then (
k18 r172.2 l0 l1 l2 (l3 + 6))
else (
none))
else (
if (v2 &&& 63) = 27 then (
(ia w l0 (l3 + 1)).bind fun v174 =>
(ia w l0 (l3 + 2)).bind fun v175 =>
(recv w l1 0).bind fun b177 => (cal w (mX0_dayEnds b177 v174 v175 w)).bind fun r176 =>
(ia r176.2 l0 (l3 + 1)).bind fun v178 =>
(ia r176.2 l0 (l3 + 2)).bind fun v179 =>
(recv r176.2 l2 2).bind fun b181 => (cal r176.2 (mX2_dayEnds b181 v178 v179 r176.2)).bind fun r180 =>
if r176.1 = r180.1 then (
k18 r180.2 l0 l1 l2 (l3 + 6))
else (
none))
else (
if (v2 &&& 63) = 28 then (
(ia w l0 (l3 + 1)).bind fun v182 =>
(ia w l0 (l3 + 2)).bind fun v183 =>
(ia w l0 (l3 + 3)).bind fun v184 =>
(recv w l1 0).bind fun b186 => (cal w (mX0_saves b186 v182 v183 v184 w)).bind fun r185 =>
(ia r185.2 l0 (l3 + 1)).bind fun v187 =>
(ia r185.2 l0 (l3 + 2)).bind fun v188 =>
(ia r185.2 l0 (l3 + 3)).bind fun v189 =>
(recv r185.2 l2 2).bind fun b191 => (cal r185.2 (mX2_saves b191 v187 v188 v189 r185.2)).bind fun r190 =>
if r185.1 = r190.1 then (
k18 r190.2 l0 l1 l2 (l3 + 6))
else (
none))
else (
if (v2 &&& 63) = 29 then (
(recv w l1 0).bind fun b193 => (cal w (mX0_whenToGo b193 w)).bind fun r192 =>
(recv r192.2 l2 2).bind fun b195 => (cal r192.2 (mX2_whenToGo b195 r192.2)).bind fun r194 =>
if r192.1 = r194.1 then (
k18 r194.2 l0 l1 l2 (l3 + 6))
else (
none))
else (
if (v2 &&& 63) = 30 then (
(recv w l1 0).bind fun b197 => (cal w (mX0_whichRope b197 w)).bind fun r196 =>
(recv r196.2 l2 2).bind fun b199 => (cal r196.2 (mX2_whichRope b199 r196.2)).bind fun r198 =>
if r196.1 = r198.1 then (
k18 r198.2 l0 l1 l2 (l3 + 6))
else (
none))
else (
if (v2 &&& 63) = 31 then (
(ia w l0 (l3 + 1)).bind fun v200 =>
(ia w l0 (l3 + 2)).bind fun v201 =>
(ia w l0 (l3 + 3)).bind fun v202 =>
(ia w l0 (l3 + 4)).bind fun v203 =>
(recv w l1 0).bind fun b205 => (cal w (mX0_bar b205 v200 v201 v202 v203 w)).bind fun r204 =>
(ia r204.2 l0 (l3 + 1)).bind fun v206 =>
(ia r204.2 l0 (l3 + 2)).bind fun v207 =>
(ia r204.2 l0 (l3 + 3)).bind fun v208 =>
(ia r204.2 l0 (l3 + 4)).bind fun v209 =>
(recv r204.2 l2 2).bind fun b211 => (cal r204.2 (mX2_bar b211 v206 v207 v208 v209 r204.2)).bind fun r210 =>
if r204.1 = r210.1 then (
k18 r210.2 l0 l1 l2 (l3 + 6))
else (
none))
else (
if (v2 &&& 63) = 32 then (
(ia w l0 (l3 + 1)).bind fun v212 =>
(ia w l0 (l3 + 2)).bind fun v213 =>
if v213 = 0 then (
mL_law_p1176 k18 w l0 l1 l2 l3 0 v212 l1)
else (
mL_law_p1176 k18 w l0 l1 l2 l3 1 v212 l1))
else (
if (v2 &&& 63) = 33 then (
(ia w l0 (l3 + 1)).bind fun v214 =>
(recv w l1 0).bind fun b216 => (cal w (mX0_howFar b216 v214 w)).bind fun r215 =>
(ia r215.2 l0 (l3 + 1)).bind fun v217 =>
(recv r215.2 l2 2).bind fun b219 => (cal r215.2 (mX2_howFar b219 v217 r215.2)).bind fun r218 =>
if r215.1 = r218.1 then (
k18 r218.2 l0 l1 l2 (l3 + 6))
else (
none))
else (
if (v2 &&& 63) = 34 then (
(recv w l1 0).bind fun b221 => (cal w (mX0_over b221 w)).bind fun r220 =>
(recv r220.2 l2 2).bind fun b223 => (cal r220.2 (mX2_over b223 r220.2)).bind fun r222 =>
if r220.1 = r222.1 then (
k18 r222.2 l0 l1 l2 (l3 + 6))
else (
none))
else (
if (v2 &&& 63) = 35 then (
(ia w l0 (l3 + 1)).bind fun v224 =>
(ia w l0 (l3 + 2)).bind fun v225 =>
(recv w l1 0).bind fun b227 => (cal w (mX0_first b227 v224 v225 w)).bind fun r226 =>
(ia r226.2 l0 (l3 + 1)).bind fun v228 =>
(ia r226.2 l0 (l3 + 2)).bind fun v229 =>
(recv r226.2 l2 2).bind fun b231 => (cal r226.2 (mX2_first b231 v228 v229 r226.2)).bind fun r230 =>
if r226.1 = r230.1 then (
k18 r230.2 l0 l1 l2 (l3 + 6))
else (
none))
else (
if (v2 &&& 63) = 36 then (
(ia w l0 (l3 + 1)).bind fun v232 =>
(ia w l0 (l3 + 2)).bind fun v233 =>
(recv w l1 0).bind fun b235 => (cal w (mX0_twoJibs b235 v232 v233 w)).bind fun r234 =>
(ia r234.2 l0 (l3 + 1)).bind fun v236 =>
(ia r234.2 l0 (l3 + 2)).bind fun v237 =>
(recv r234.2 l2 2).bind fun b239 => (cal r234.2 (mX2_twoJibs b239 v236 v237 r234.2)).bind fun r238 =>
if r234.1 = r238.1 then (
k18 r238.2 l0 l1 l2 (l3 + 6))
else (
none))
else (
if (v2 &&& 63) = 37 then (
(ia w l0 (l3 + 1)).bind fun v240 =>
(ia w l0 (l3 + 2)).bind fun v241 =>
if v241 = 0 then (
mL_law_p1327 k18 w l0 l1 l2 l3 0 v240 l1)
else (
mL_law_p1327 k18 w l0 l1 l2 l3 1 v240 l1))
else (
if (v2 &&& 63) = 38 then (
(ia w l0 (l3 + 1)).bind fun v242 =>
if v242 = 0 then (
mL_law_p1371 k18 w l0 l1 l2 l3 0 l1)
else (
mL_law_p1371 k18 w l0 l1 l2 l3 1 l1))
else (
if (v2 &&& 63) = 39 then (
(ia w l0 (l3 + 1)).bind fun v243 =>
(ia w l0 (l3 + 2)).bind fun v244 =>
(recv w l1 0).bind fun b246 => (cal w (mX0_landed b246 v243 v244 w)).bind fun r245 =>
(ia r245.2 l0 (l3 + 1)).bind fun v247 =>
(ia r245.2 l0 (l3 + 2)).bind fun v248 =>
(recv r245.2 l2 2).bind fun b250 => (cal r245.2 (mX2_landed b250 v247 v248 r245.2)).bind fun r249 =>
if r245.1 = r249.1 then (
k18 r249.2 l0 l1 l2 (l3 + 6))
else (
none))
else (
if (v2 &&& 63) = 40 then (
(ia w l0 (l3 + 1)).bind fun v251 =>
(recv w l1 0).bind fun b253 => (cal w (mX0_hour b253 v251 w)).bind fun r252 =>
(ia r252.2 l0 (l3 + 1)).bind fun v254 =>
(recv r252.2 l2 2).bind fun b256 => (cal r252.2 (mX2_hour b256 v254 r252.2)).bind fun r255 =>
if r252.1 = r255.1 then (
k18 r255.2 l0 l1 l2 (l3 + 6))
else (
none))
else (
if (v2 &&& 63) = 41 then (
(ia w l0 (l3 + 1)).bind fun v257 =>
if v257 = 0 then (
mL_law_p1467 k18 w l0 l1 l2 l3 0 l1)
else (
mL_law_p1467 k18 w l0 l1 l2 l3 1 l1))
else (
if (v2 &&& 63) = 42 then (
(recv w l1 0).bind fun b259 => (cal w (mX0_image b259 w)).bind fun r258 =>
(recv r258.2 l2 2).bind fun b261 => (cal r258.2 (mX2_image b261 r258.2)).bind fun r260 =>
if r258.1 = r260.1 then (
k18 r260.2 l0 l1 l2 (l3 + 6))
else (
none))
else (
if (v2 &&& 63) = 43 then (
(recv w l1 0).bind fun b263 => (cal w (mX0_back b263 w)).bind fun r262 =>
(recv r262.2 l2 2).bind fun b265 => (cal r262.2 (mX2_back b265 r262.2)).bind fun r264 =>
if r262.1 = r264.1 then (
k18 r264.2 l0 l1 l2 (l3 + 6))
else (
none))
else (
if (v2 &&& 63) = 44 then (
(ia w l0 (l3 + 1)).bind fun v266 =>
(recv w l1 0).bind fun b268 => (cal w (mX0_about b268 v266 w)).bind fun r267 =>
(ia r267.2 l0 (l3 + 1)).bind fun v269 =>
(recv r267.2 l2 2).bind fun b271 => (cal r267.2 (mX2_about b271 v269 r267.2)).bind fun r270 =>
if r267.1 = r270.1 then (
k18 r270.2 l0 l1 l2 (l3 + 6))
else (
none))
else (
k18 w l0 l1 l2 (l3 + 6)))))))))))))))))))))))))))))))))))))))))))))))
noncomputable def mL_law_l18 : Nat → Wd → (Option Nat) → (Option Nat) → (Option Nat) → Int32 → Option (Unit × Wd)
  | 0, _, _, _, _, _ => none
  | n + 1, w, l0, l1, l2, l3 => mL_law_b18 (mL_law_l18 n) w l0 l1 l2 l3
noncomputable def mL_law (a0 : Option Nat) (w : Wd) : Option (Unit × Wd) :=
(some (wnew w (.inr (0, df9_X0)) 22)).bind fun (w1 : Wd) =>
(((some (wnx w)))).bind fun b3 => (cal w1 (mX0_init b3 w1)).bind fun r2 =>
(some (wnew r2.2 (.inr (2, df9_X2)) 37)).bind fun (w4 : Wd) =>
(((some (wnx r2.2)))).bind fun b6 => (cal w4 (mX2_init b6 w4)).bind fun r5 =>
mL_law_l18 FU r5.2 a0 ((some (wnx w))) ((some (wnx r2.2))) 0
theorem eL_law_p1484 {y : Fx (Unit × Wd)} (hk : OkF y RL cL_law 4 8192 100000) (hR : RetL y) (hst : (fl y).stackTraces = false) {k18 : Wd → (Option Nat) → (Option Nat) → (Option Nat) → Int32 → Option (Unit × Wd)} (h18 : ∀ (w : Wd) (l0 : Option Nat) (l1 : Option Nat) (l2 : Option Nat) (l3 : Int32), V y w [(0, va_rf l0), (1, va_rf l1), (2, va_rf l2), (3, .int l3)] [] 18 (k18 w l0 l1 l2 l3)) (w : Wd) (l0 : Option Nat) (l1 : Option Nat) (l2 : Option Nat) (l3 : Int32) (t0 : Int32) (t1 : Option Nat) (t2 : Int32) : V y w [(0, va_rf l0), (1, va_rf l1), (2, va_rf l2), (3, .int l3)] [.int t0, va_rf t1, .int t2] 1484 (mL_law_p1484 k18 w l0 l1 l2 l3 t0 t1 t2) := by
  unfold mL_law_p1484
  refine n_L_192 (pc := 1484) hk (fun b r h => ctX2_mean (fl y) (fK y) hk.2.2.2.2.2.2.2.1 b t0 w r h) ⟨Nat.le_of_ble_eq_true rfl, Nat.le_of_ble_eq_true rfl⟩ (Nat.le_of_ble_eq_true rfl) dL_law_1484 (fun r1 => ?_)
  refine V_icmp_eq (pc := 1487) (tgt := 1541) hk dL_law_1487 rfl ?_ ?_
  · refine V_iinc (pc := 1541) (v := 6) (lc' := [(3, .int (l3 + 6)), (0, va_rf l0), (1, va_rf l1), (2, va_rf l2)]) hk dL_law_1541 3 rfl rfl (Nat.le_of_ble_eq_true rfl) (by simp [rf_cat, cat_int, cat_long, cat_ref]) ?_
    refine V_goto (pc := 1544) (tgt := 18) hk dL_law_1544 rfl ?_
    refine V_pick (lc' := [(0, va_rf l0), (1, va_rf l1), (2, va_rf l2), (3, .int (l3 + 6))]) [1, 2, 3, 0] rfl ?_
    exact h18 r1.2 l0 l1 l2 (l3 + 6)
  · refine V_iconst (pc := 1490) (v := 0) hk dL_law_1490 rfl ?_
    exact V_none
theorem eL_law_p1467 {y : Fx (Unit × Wd)} (hk : OkF y RL cL_law 4 8192 100000) (hR : RetL y) (hst : (fl y).stackTraces = false) {k18 : Wd → (Option Nat) → (Option Nat) → (Option Nat) → Int32 → Option (Unit × Wd)} (h18 : ∀ (w : Wd) (l0 : Option Nat) (l1 : Option Nat) (l2 : Option Nat) (l3 : Int32), V y w [(0, va_rf l0), (1, va_rf l1), (2, va_rf l2), (3, .int l3)] [] 18 (k18 w l0 l1 l2 l3)) (w : Wd) (l0 : Option Nat) (l1 : Option Nat) (l2 : Option Nat) (l3 : Int32) (t0 : Int32) (t1 : Option Nat) : V y w [(0, va_rf l0), (1, va_rf l1), (2, va_rf l2), (3, .int l3)] [.int t0, va_rf t1] 1467 (mL_law_p1467 k18 w l0 l1 l2 l3 t0 t1) := by
  unfold mL_law_p1467
  refine n_L_188 (pc := 1467) hk (fun b r h => ctX0_mean (fl y) (fK y) hk.2.2.2.2.2.2.2.1 b t0 w r h) ⟨Nat.le_of_ble_eq_true rfl, Nat.le_of_ble_eq_true rfl⟩ (Nat.le_of_ble_eq_true rfl) dL_law_1467 (fun r1 => ?_)
  refine V_aload_n (pc := 1470) hk dL_law_1470 2 rfl ?_
  refine V_aload_n (pc := 1471) hk dL_law_1471 0 rfl ?_
  refine V_iload_n (pc := 1472) hk dL_law_1472 3 rfl ?_
  refine V_iconst (pc := 1473) (v := 1) hk dL_law_1473 rfl ?_
  refine V_iadd (pc := 1474) hk dL_law_1474 ?_
  refine V_iaload (pc := 1475) hk dL_law_1475 (fun v3 => ?_)
  refine V_if_eq (pc := 1476) (tgt := 1483) hk dL_law_1476 rfl ?_ ?_
  · refine V_iconst (pc := 1483) (v := 0) hk dL_law_1483 rfl ?_
    exact eL_law_p1484 hk hR hst h18 r1.2 l0 l1 l2 l3 0 l2 r1.1
  · refine V_iconst (pc := 1479) (v := 1) hk dL_law_1479 rfl ?_
    refine V_goto (pc := 1480) (tgt := 1484) hk dL_law_1480 rfl ?_
    exact eL_law_p1484 hk hR hst h18 r1.2 l0 l1 l2 l3 1 l2 r1.1
theorem eL_law_p1388 {y : Fx (Unit × Wd)} (hk : OkF y RL cL_law 4 8192 100000) (hR : RetL y) (hst : (fl y).stackTraces = false) {k18 : Wd → (Option Nat) → (Option Nat) → (Option Nat) → Int32 → Option (Unit × Wd)} (h18 : ∀ (w : Wd) (l0 : Option Nat) (l1 : Option Nat) (l2 : Option Nat) (l3 : Int32), V y w [(0, va_rf l0), (1, va_rf l1), (2, va_rf l2), (3, .int l3)] [] 18 (k18 w l0 l1 l2 l3)) (w : Wd) (l0 : Option Nat) (l1 : Option Nat) (l2 : Option Nat) (l3 : Int32) (t0 : Int32) (t1 : Option Nat) (t2 : Int64) : V y w [(0, va_rf l0), (1, va_rf l1), (2, va_rf l2), (3, .int l3)] [.int t0, va_rf t1, .long t2] 1388 (mL_law_p1388 k18 w l0 l1 l2 l3 t0 t1 t2) := by
  unfold mL_law_p1388
  refine n_L_179 (pc := 1388) hk (fun b r h => ctX2_left (fl y) (fK y) hk.2.2.2.2.2.2.2.1 b t0 w r h) ⟨Nat.le_of_ble_eq_true rfl, Nat.le_of_ble_eq_true rfl⟩ (Nat.le_of_ble_eq_true rfl) dL_law_1388 (fun r1 => ?_)
  refine V_lcmp (pc := 1391) hk dL_law_1391 ?_
  refine V_if_eq (pc := 1392) (tgt := 1541) hk dL_law_1392 rfl ?_ ?_
  · refine V_iinc (pc := 1541) (v := 6) (lc' := [(3, .int (l3 + 6)), (0, va_rf l0), (1, va_rf l1), (2, va_rf l2)]) hk dL_law_1541 3 rfl rfl (Nat.le_of_ble_eq_true rfl) (by simp [rf_cat, cat_int, cat_long, cat_ref]) ?_
    refine V_goto (pc := 1544) (tgt := 18) hk dL_law_1544 rfl ?_
    refine V_pick (lc' := [(0, va_rf l0), (1, va_rf l1), (2, va_rf l2), (3, .int (l3 + 6))]) [1, 2, 3, 0] rfl ?_
    exact h18 r1.2 l0 l1 l2 (l3 + 6)
  · refine V_iconst (pc := 1395) (v := 0) hk dL_law_1395 rfl ?_
    exact V_none
theorem eL_law_p1371 {y : Fx (Unit × Wd)} (hk : OkF y RL cL_law 4 8192 100000) (hR : RetL y) (hst : (fl y).stackTraces = false) {k18 : Wd → (Option Nat) → (Option Nat) → (Option Nat) → Int32 → Option (Unit × Wd)} (h18 : ∀ (w : Wd) (l0 : Option Nat) (l1 : Option Nat) (l2 : Option Nat) (l3 : Int32), V y w [(0, va_rf l0), (1, va_rf l1), (2, va_rf l2), (3, .int l3)] [] 18 (k18 w l0 l1 l2 l3)) (w : Wd) (l0 : Option Nat) (l1 : Option Nat) (l2 : Option Nat) (l3 : Int32) (t0 : Int32) (t1 : Option Nat) : V y w [(0, va_rf l0), (1, va_rf l1), (2, va_rf l2), (3, .int l3)] [.int t0, va_rf t1] 1371 (mL_law_p1371 k18 w l0 l1 l2 l3 t0 t1) := by
  unfold mL_law_p1371
  refine n_L_175 (pc := 1371) hk (fun b r h => ctX0_left (fl y) (fK y) hk.2.2.2.2.2.2.2.1 b t0 w r h) ⟨Nat.le_of_ble_eq_true rfl, Nat.le_of_ble_eq_true rfl⟩ (Nat.le_of_ble_eq_true rfl) dL_law_1371 (fun r1 => ?_)
  refine V_aload_n (pc := 1374) hk dL_law_1374 2 rfl ?_
  refine V_aload_n (pc := 1375) hk dL_law_1375 0 rfl ?_
  refine V_iload_n (pc := 1376) hk dL_law_1376 3 rfl ?_
  refine V_iconst (pc := 1377) (v := 1) hk dL_law_1377 rfl ?_
  refine V_iadd (pc := 1378) hk dL_law_1378 ?_
  refine V_iaload (pc := 1379) hk dL_law_1379 (fun v3 => ?_)
  refine V_if_eq (pc := 1380) (tgt := 1387) hk dL_law_1380 rfl ?_ ?_
  · refine V_iconst (pc := 1387) (v := 0) hk dL_law_1387 rfl ?_
    exact eL_law_p1388 hk hR hst h18 r1.2 l0 l1 l2 l3 0 l2 r1.1
  · refine V_iconst (pc := 1383) (v := 1) hk dL_law_1383 rfl ?_
    refine V_goto (pc := 1384) (tgt := 1388) hk dL_law_1384 rfl ?_
    exact eL_law_p1388 hk hR hst h18 r1.2 l0 l1 l2 l3 1 l2 r1.1
theorem eL_law_p1349 {y : Fx (Unit × Wd)} (hk : OkF y RL cL_law 4 8192 100000) (hR : RetL y) (hst : (fl y).stackTraces = false) {k18 : Wd → (Option Nat) → (Option Nat) → (Option Nat) → Int32 → Option (Unit × Wd)} (h18 : ∀ (w : Wd) (l0 : Option Nat) (l1 : Option Nat) (l2 : Option Nat) (l3 : Int32), V y w [(0, va_rf l0), (1, va_rf l1), (2, va_rf l2), (3, .int l3)] [] 18 (k18 w l0 l1 l2 l3)) (w : Wd) (l0 : Option Nat) (l1 : Option Nat) (l2 : Option Nat) (l3 : Int32) (t0 : Int32) (t1 : Int32) (t2 : Option Nat) (t3 : Int32) : V y w [(0, va_rf l0), (1, va_rf l1), (2, va_rf l2), (3, .int l3)] [.int t0, .int t1, va_rf t2, .int t3] 1349 (mL_law_p1349 k18 w l0 l1 l2 l3 t0 t1 t2 t3) := by
  unfold mL_law_p1349
  refine n_L_174 (pc := 1349) hk (fun b r h => ctX2_said (fl y) (fK y) hk.2.2.2.2.2.2.2.1 b t1 t0 w r h) ⟨Nat.le_of_ble_eq_true rfl, Nat.le_of_ble_eq_true rfl⟩ (Nat.le_of_ble_eq_true rfl) dL_law_1349 (fun r1 => ?_)
  refine V_icmp_eq (pc := 1352) (tgt := 1541) hk dL_law_1352 rfl ?_ ?_
  · refine V_iinc (pc := 1541) (v := 6) (lc' := [(3, .int (l3 + 6)), (0, va_rf l0), (1, va_rf l1), (2, va_rf l2)]) hk dL_law_1541 3 rfl rfl (Nat.le_of_ble_eq_true rfl) (by simp [rf_cat, cat_int, cat_long, cat_ref]) ?_
    refine V_goto (pc := 1544) (tgt := 18) hk dL_law_1544 rfl ?_
    refine V_pick (lc' := [(0, va_rf l0), (1, va_rf l1), (2, va_rf l2), (3, .int (l3 + 6))]) [1, 2, 3, 0] rfl ?_
    exact h18 r1.2 l0 l1 l2 (l3 + 6)
  · refine V_iconst (pc := 1355) (v := 0) hk dL_law_1355 rfl ?_
    exact V_none
theorem eL_law_p1327 {y : Fx (Unit × Wd)} (hk : OkF y RL cL_law 4 8192 100000) (hR : RetL y) (hst : (fl y).stackTraces = false) {k18 : Wd → (Option Nat) → (Option Nat) → (Option Nat) → Int32 → Option (Unit × Wd)} (h18 : ∀ (w : Wd) (l0 : Option Nat) (l1 : Option Nat) (l2 : Option Nat) (l3 : Int32), V y w [(0, va_rf l0), (1, va_rf l1), (2, va_rf l2), (3, .int l3)] [] 18 (k18 w l0 l1 l2 l3)) (w : Wd) (l0 : Option Nat) (l1 : Option Nat) (l2 : Option Nat) (l3 : Int32) (t0 : Int32) (t1 : Int32) (t2 : Option Nat) : V y w [(0, va_rf l0), (1, va_rf l1), (2, va_rf l2), (3, .int l3)] [.int t0, .int t1, va_rf t2] 1327 (mL_law_p1327 k18 w l0 l1 l2 l3 t0 t1 t2) := by
  unfold mL_law_p1327
  refine n_L_171 (pc := 1327) hk (fun b r h => ctX0_said (fl y) (fK y) hk.2.2.2.2.2.2.2.1 b t1 t0 w r h) ⟨Nat.le_of_ble_eq_true rfl, Nat.le_of_ble_eq_true rfl⟩ (Nat.le_of_ble_eq_true rfl) dL_law_1327 (fun r1 => ?_)
  refine V_aload_n (pc := 1330) hk dL_law_1330 2 rfl ?_
  refine V_aload_n (pc := 1331) hk dL_law_1331 0 rfl ?_
  refine V_iload_n (pc := 1332) hk dL_law_1332 3 rfl ?_
  refine V_iconst (pc := 1333) (v := 1) hk dL_law_1333 rfl ?_
  refine V_iadd (pc := 1334) hk dL_law_1334 ?_
  refine V_iaload (pc := 1335) hk dL_law_1335 (fun v3 => ?_)
  refine V_aload_n (pc := 1336) hk dL_law_1336 0 rfl ?_
  refine V_iload_n (pc := 1337) hk dL_law_1337 3 rfl ?_
  refine V_iconst (pc := 1338) (v := 2) hk dL_law_1338 rfl ?_
  refine V_iadd (pc := 1339) hk dL_law_1339 ?_
  refine V_iaload (pc := 1340) hk dL_law_1340 (fun v4 => ?_)
  refine V_if_eq (pc := 1341) (tgt := 1348) hk dL_law_1341 rfl ?_ ?_
  · refine V_iconst (pc := 1348) (v := 0) hk dL_law_1348 rfl ?_
    exact eL_law_p1349 hk hR hst h18 r1.2 l0 l1 l2 l3 0 v3 l2 r1.1
  · refine V_iconst (pc := 1344) (v := 1) hk dL_law_1344 rfl ?_
    refine V_goto (pc := 1345) (tgt := 1349) hk dL_law_1345 rfl ?_
    exact eL_law_p1349 hk hR hst h18 r1.2 l0 l1 l2 l3 1 v3 l2 r1.1
theorem eL_law_p1198 {y : Fx (Unit × Wd)} (hk : OkF y RL cL_law 4 8192 100000) (hR : RetL y) (hst : (fl y).stackTraces = false) {k18 : Wd → (Option Nat) → (Option Nat) → (Option Nat) → Int32 → Option (Unit × Wd)} (h18 : ∀ (w : Wd) (l0 : Option Nat) (l1 : Option Nat) (l2 : Option Nat) (l3 : Int32), V y w [(0, va_rf l0), (1, va_rf l1), (2, va_rf l2), (3, .int l3)] [] 18 (k18 w l0 l1 l2 l3)) (w : Wd) (l0 : Option Nat) (l1 : Option Nat) (l2 : Option Nat) (l3 : Int32) (t0 : Int32) (t1 : Int32) (t2 : Option Nat) (t3 : Int32) : V y w [(0, va_rf l0), (1, va_rf l1), (2, va_rf l2), (3, .int l3)] [.int t0, .int t1, va_rf t2, .int t3] 1198 (mL_law_p1198 k18 w l0 l1 l2 l3 t0 t1 t2 t3) := by
  unfold mL_law_p1198
  refine n_L_154 (pc := 1198) hk (fun b r h => ctX2_barred (fl y) (fK y) hk.2.2.2.2.2.2.2.1 b t1 t0 w r h) ⟨Nat.le_of_ble_eq_true rfl, Nat.le_of_ble_eq_true rfl⟩ (Nat.le_of_ble_eq_true rfl) dL_law_1198 (fun r1 => ?_)
  refine V_icmp_eq (pc := 1201) (tgt := 1541) hk dL_law_1201 rfl ?_ ?_
  · refine V_iinc (pc := 1541) (v := 6) (lc' := [(3, .int (l3 + 6)), (0, va_rf l0), (1, va_rf l1), (2, va_rf l2)]) hk dL_law_1541 3 rfl rfl (Nat.le_of_ble_eq_true rfl) (by simp [rf_cat, cat_int, cat_long, cat_ref]) ?_
    refine V_goto (pc := 1544) (tgt := 18) hk dL_law_1544 rfl ?_
    refine V_pick (lc' := [(0, va_rf l0), (1, va_rf l1), (2, va_rf l2), (3, .int (l3 + 6))]) [1, 2, 3, 0] rfl ?_
    exact h18 r1.2 l0 l1 l2 (l3 + 6)
  · refine V_iconst (pc := 1204) (v := 0) hk dL_law_1204 rfl ?_
    exact V_none
theorem eL_law_p1176 {y : Fx (Unit × Wd)} (hk : OkF y RL cL_law 4 8192 100000) (hR : RetL y) (hst : (fl y).stackTraces = false) {k18 : Wd → (Option Nat) → (Option Nat) → (Option Nat) → Int32 → Option (Unit × Wd)} (h18 : ∀ (w : Wd) (l0 : Option Nat) (l1 : Option Nat) (l2 : Option Nat) (l3 : Int32), V y w [(0, va_rf l0), (1, va_rf l1), (2, va_rf l2), (3, .int l3)] [] 18 (k18 w l0 l1 l2 l3)) (w : Wd) (l0 : Option Nat) (l1 : Option Nat) (l2 : Option Nat) (l3 : Int32) (t0 : Int32) (t1 : Int32) (t2 : Option Nat) : V y w [(0, va_rf l0), (1, va_rf l1), (2, va_rf l2), (3, .int l3)] [.int t0, .int t1, va_rf t2] 1176 (mL_law_p1176 k18 w l0 l1 l2 l3 t0 t1 t2) := by
  unfold mL_law_p1176
  refine n_L_150 (pc := 1176) hk (fun b r h => ctX0_barred (fl y) (fK y) hk.2.2.2.2.2.2.2.1 b t1 t0 w r h) ⟨Nat.le_of_ble_eq_true rfl, Nat.le_of_ble_eq_true rfl⟩ (Nat.le_of_ble_eq_true rfl) dL_law_1176 (fun r1 => ?_)
  refine V_aload_n (pc := 1179) hk dL_law_1179 2 rfl ?_
  refine V_aload_n (pc := 1180) hk dL_law_1180 0 rfl ?_
  refine V_iload_n (pc := 1181) hk dL_law_1181 3 rfl ?_
  refine V_iconst (pc := 1182) (v := 1) hk dL_law_1182 rfl ?_
  refine V_iadd (pc := 1183) hk dL_law_1183 ?_
  refine V_iaload (pc := 1184) hk dL_law_1184 (fun v3 => ?_)
  refine V_aload_n (pc := 1185) hk dL_law_1185 0 rfl ?_
  refine V_iload_n (pc := 1186) hk dL_law_1186 3 rfl ?_
  refine V_iconst (pc := 1187) (v := 2) hk dL_law_1187 rfl ?_
  refine V_iadd (pc := 1188) hk dL_law_1188 ?_
  refine V_iaload (pc := 1189) hk dL_law_1189 (fun v4 => ?_)
  refine V_if_eq (pc := 1190) (tgt := 1197) hk dL_law_1190 rfl ?_ ?_
  · refine V_iconst (pc := 1197) (v := 0) hk dL_law_1197 rfl ?_
    exact eL_law_p1198 hk hR hst h18 r1.2 l0 l1 l2 l3 0 v3 l2 r1.1
  · refine V_iconst (pc := 1193) (v := 1) hk dL_law_1193 rfl ?_
    refine V_goto (pc := 1194) (tgt := 1198) hk dL_law_1194 rfl ?_
    exact eL_law_p1198 hk hR hst h18 r1.2 l0 l1 l2 l3 1 v3 l2 r1.1
theorem eL_law_p924 {y : Fx (Unit × Wd)} (hk : OkF y RL cL_law 4 8192 100000) (hR : RetL y) (hst : (fl y).stackTraces = false) {k18 : Wd → (Option Nat) → (Option Nat) → (Option Nat) → Int32 → Option (Unit × Wd)} (h18 : ∀ (w : Wd) (l0 : Option Nat) (l1 : Option Nat) (l2 : Option Nat) (l3 : Int32), V y w [(0, va_rf l0), (1, va_rf l1), (2, va_rf l2), (3, .int l3)] [] 18 (k18 w l0 l1 l2 l3)) (w : Wd) (l0 : Option Nat) (l1 : Option Nat) (l2 : Option Nat) (l3 : Int32) (t0 : Int32) (t1 : Int32) (t2 : Int32) (t3 : Option Nat) (t4 : Int64) : V y w [(0, va_rf l0), (1, va_rf l1), (2, va_rf l2), (3, .int l3)] [.int t0, .int t1, .int t2, va_rf t3, .long t4] 924 (mL_law_p924 k18 w l0 l1 l2 l3 t0 t1 t2 t3 t4) := by
  unfold mL_law_p924
  refine n_L_115 (pc := 924) hk (fun b r h => ctX2_calm (fl y) (fK y) hk.2.2.2.2.2.2.2.1 b t2 t1 t0 w r h) ⟨Nat.le_of_ble_eq_true rfl, Nat.le_of_ble_eq_true rfl⟩ (Nat.le_of_ble_eq_true rfl) dL_law_924 (fun r1 => ?_)
  refine V_lcmp (pc := 927) hk dL_law_927 ?_
  refine V_if_eq (pc := 928) (tgt := 1541) hk dL_law_928 rfl ?_ ?_
  · refine V_iinc (pc := 1541) (v := 6) (lc' := [(3, .int (l3 + 6)), (0, va_rf l0), (1, va_rf l1), (2, va_rf l2)]) hk dL_law_1541 3 rfl rfl (Nat.le_of_ble_eq_true rfl) (by simp [rf_cat, cat_int, cat_long, cat_ref]) ?_
    refine V_goto (pc := 1544) (tgt := 18) hk dL_law_1544 rfl ?_
    refine V_pick (lc' := [(0, va_rf l0), (1, va_rf l1), (2, va_rf l2), (3, .int (l3 + 6))]) [1, 2, 3, 0] rfl ?_
    exact h18 r1.2 l0 l1 l2 (l3 + 6)
  · refine V_iconst (pc := 931) (v := 0) hk dL_law_931 rfl ?_
    exact V_none
theorem eL_law_p897 {y : Fx (Unit × Wd)} (hk : OkF y RL cL_law 4 8192 100000) (hR : RetL y) (hst : (fl y).stackTraces = false) {k18 : Wd → (Option Nat) → (Option Nat) → (Option Nat) → Int32 → Option (Unit × Wd)} (h18 : ∀ (w : Wd) (l0 : Option Nat) (l1 : Option Nat) (l2 : Option Nat) (l3 : Int32), V y w [(0, va_rf l0), (1, va_rf l1), (2, va_rf l2), (3, .int l3)] [] 18 (k18 w l0 l1 l2 l3)) (w : Wd) (l0 : Option Nat) (l1 : Option Nat) (l2 : Option Nat) (l3 : Int32) (t0 : Int32) (t1 : Int32) (t2 : Int32) (t3 : Option Nat) : V y w [(0, va_rf l0), (1, va_rf l1), (2, va_rf l2), (3, .int l3)] [.int t0, .int t1, .int t2, va_rf t3] 897 (mL_law_p897 k18 w l0 l1 l2 l3 t0 t1 t2 t3) := by
  unfold mL_law_p897
  refine n_L_111 (pc := 897) hk (fun b r h => ctX0_calm (fl y) (fK y) hk.2.2.2.2.2.2.2.1 b t2 t1 t0 w r h) ⟨Nat.le_of_ble_eq_true rfl, Nat.le_of_ble_eq_true rfl⟩ (Nat.le_of_ble_eq_true rfl) dL_law_897 (fun r1 => ?_)
  refine V_aload_n (pc := 900) hk dL_law_900 2 rfl ?_
  refine V_aload_n (pc := 901) hk dL_law_901 0 rfl ?_
  refine V_iload_n (pc := 902) hk dL_law_902 3 rfl ?_
  refine V_iconst (pc := 903) (v := 1) hk dL_law_903 rfl ?_
  refine V_iadd (pc := 904) hk dL_law_904 ?_
  refine V_iaload (pc := 905) hk dL_law_905 (fun v3 => ?_)
  refine V_aload_n (pc := 906) hk dL_law_906 0 rfl ?_
  refine V_iload_n (pc := 907) hk dL_law_907 3 rfl ?_
  refine V_iconst (pc := 908) (v := 2) hk dL_law_908 rfl ?_
  refine V_iadd (pc := 909) hk dL_law_909 ?_
  refine V_iaload (pc := 910) hk dL_law_910 (fun v4 => ?_)
  refine V_aload_n (pc := 911) hk dL_law_911 0 rfl ?_
  refine V_iload_n (pc := 912) hk dL_law_912 3 rfl ?_
  refine V_iconst (pc := 913) (v := 3) hk dL_law_913 rfl ?_
  refine V_iadd (pc := 914) hk dL_law_914 ?_
  refine V_iaload (pc := 915) hk dL_law_915 (fun v5 => ?_)
  refine V_if_eq (pc := 916) (tgt := 923) hk dL_law_916 rfl ?_ ?_
  · refine V_iconst (pc := 923) (v := 0) hk dL_law_923 rfl ?_
    exact eL_law_p924 hk hR hst h18 r1.2 l0 l1 l2 l3 0 v4 v3 l2 r1.1
  · refine V_iconst (pc := 919) (v := 1) hk dL_law_919 rfl ?_
    refine V_goto (pc := 920) (tgt := 924) hk dL_law_920 rfl ?_
    exact eL_law_p924 hk hR hst h18 r1.2 l0 l1 l2 l3 1 v4 v3 l2 r1.1
theorem eL_law_p791 {y : Fx (Unit × Wd)} (hk : OkF y RL cL_law 4 8192 100000) (hR : RetL y) (hst : (fl y).stackTraces = false) {k18 : Wd → (Option Nat) → (Option Nat) → (Option Nat) → Int32 → Option (Unit × Wd)} (h18 : ∀ (w : Wd) (l0 : Option Nat) (l1 : Option Nat) (l2 : Option Nat) (l3 : Int32), V y w [(0, va_rf l0), (1, va_rf l1), (2, va_rf l2), (3, .int l3)] [] 18 (k18 w l0 l1 l2 l3)) (w : Wd) (l0 : Option Nat) (l1 : Option Nat) (l2 : Option Nat) (l3 : Int32) (t0 : Int32) (t1 : Int32) (t2 : Option Nat) (t3 : Int32) : V y w [(0, va_rf l0), (1, va_rf l1), (2, va_rf l2), (3, .int l3)] [.int t0, .int t1, va_rf t2, .int t3] 791 (mL_law_p791 k18 w l0 l1 l2 l3 t0 t1 t2 t3) := by
  unfold mL_law_p791
  refine V_aload_n (pc := 791) hk dL_law_791 0 rfl ?_
  refine V_iload_n (pc := 792) hk dL_law_792 3 rfl ?_
  refine V_iconst (pc := 793) (v := 3) hk dL_law_793 rfl ?_
  refine V_iadd (pc := 794) hk dL_law_794 ?_
  refine V_iaload (pc := 795) hk dL_law_795 (fun v1 => ?_)
  refine n_L_98 (pc := 796) hk (fun b r h => ctX2_foretold (fl y) (fK y) hk.2.2.2.2.2.2.2.1 b t1 t0 v1 w r h) ⟨Nat.le_of_ble_eq_true rfl, Nat.le_of_ble_eq_true rfl⟩ (Nat.le_of_ble_eq_true rfl) dL_law_796 (fun r2 => ?_)
  refine V_icmp_eq (pc := 799) (tgt := 1541) hk dL_law_799 rfl ?_ ?_
  · refine V_iinc (pc := 1541) (v := 6) (lc' := [(3, .int (l3 + 6)), (0, va_rf l0), (1, va_rf l1), (2, va_rf l2)]) hk dL_law_1541 3 rfl rfl (Nat.le_of_ble_eq_true rfl) (by simp [rf_cat, cat_int, cat_long, cat_ref]) ?_
    refine V_goto (pc := 1544) (tgt := 18) hk dL_law_1544 rfl ?_
    refine V_pick (lc' := [(0, va_rf l0), (1, va_rf l1), (2, va_rf l2), (3, .int (l3 + 6))]) [1, 2, 3, 0] rfl ?_
    exact h18 r2.2 l0 l1 l2 (l3 + 6)
  · refine V_iconst (pc := 802) (v := 0) hk dL_law_802 rfl ?_
    exact V_none
theorem eL_law_p764 {y : Fx (Unit × Wd)} (hk : OkF y RL cL_law 4 8192 100000) (hR : RetL y) (hst : (fl y).stackTraces = false) {k18 : Wd → (Option Nat) → (Option Nat) → (Option Nat) → Int32 → Option (Unit × Wd)} (h18 : ∀ (w : Wd) (l0 : Option Nat) (l1 : Option Nat) (l2 : Option Nat) (l3 : Int32), V y w [(0, va_rf l0), (1, va_rf l1), (2, va_rf l2), (3, .int l3)] [] 18 (k18 w l0 l1 l2 l3)) (w : Wd) (l0 : Option Nat) (l1 : Option Nat) (l2 : Option Nat) (l3 : Int32) (t0 : Int32) (t1 : Int32) (t2 : Option Nat) : V y w [(0, va_rf l0), (1, va_rf l1), (2, va_rf l2), (3, .int l3)] [.int t0, .int t1, va_rf t2] 764 (mL_law_p764 k18 w l0 l1 l2 l3 t0 t1 t2) := by
  unfold mL_law_p764
  refine V_aload_n (pc := 764) hk dL_law_764 0 rfl ?_
  refine V_iload_n (pc := 765) hk dL_law_765 3 rfl ?_
  refine V_iconst (pc := 766) (v := 3) hk dL_law_766 rfl ?_
  refine V_iadd (pc := 767) hk dL_law_767 ?_
  refine V_iaload (pc := 768) hk dL_law_768 (fun v1 => ?_)
  refine n_L_94 (pc := 769) hk (fun b r h => ctX0_foretold (fl y) (fK y) hk.2.2.2.2.2.2.2.1 b t1 t0 v1 w r h) ⟨Nat.le_of_ble_eq_true rfl, Nat.le_of_ble_eq_true rfl⟩ (Nat.le_of_ble_eq_true rfl) dL_law_769 (fun r2 => ?_)
  refine V_aload_n (pc := 772) hk dL_law_772 2 rfl ?_
  refine V_aload_n (pc := 773) hk dL_law_773 0 rfl ?_
  refine V_iload_n (pc := 774) hk dL_law_774 3 rfl ?_
  refine V_iconst (pc := 775) (v := 1) hk dL_law_775 rfl ?_
  refine V_iadd (pc := 776) hk dL_law_776 ?_
  refine V_iaload (pc := 777) hk dL_law_777 (fun v4 => ?_)
  refine V_aload_n (pc := 778) hk dL_law_778 0 rfl ?_
  refine V_iload_n (pc := 779) hk dL_law_779 3 rfl ?_
  refine V_iconst (pc := 780) (v := 2) hk dL_law_780 rfl ?_
  refine V_iadd (pc := 781) hk dL_law_781 ?_
  refine V_iaload (pc := 782) hk dL_law_782 (fun v5 => ?_)
  refine V_if_eq (pc := 783) (tgt := 790) hk dL_law_783 rfl ?_ ?_
  · refine V_iconst (pc := 790) (v := 0) hk dL_law_790 rfl ?_
    exact eL_law_p791 hk hR hst h18 r2.2 l0 l1 l2 l3 0 v4 l2 r2.1
  · refine V_iconst (pc := 786) (v := 1) hk dL_law_786 rfl ?_
    refine V_goto (pc := 787) (tgt := 791) hk dL_law_787 rfl ?_
    exact eL_law_p791 hk hR hst h18 r2.2 l0 l1 l2 l3 1 v4 l2 r2.1
theorem eL_law_b18 {y : Fx (Unit × Wd)} (hk : OkF y RL cL_law 4 8192 100000) (hR : RetL y) (hst : (fl y).stackTraces = false) {k18 : Wd → (Option Nat) → (Option Nat) → (Option Nat) → Int32 → Option (Unit × Wd)} (h18 : ∀ (w : Wd) (l0 : Option Nat) (l1 : Option Nat) (l2 : Option Nat) (l3 : Int32), V y w [(0, va_rf l0), (1, va_rf l1), (2, va_rf l2), (3, .int l3)] [] 18 (k18 w l0 l1 l2 l3)) (w : Wd) (l0 : Option Nat) (l1 : Option Nat) (l2 : Option Nat) (l3 : Int32) : V y w [(0, va_rf l0), (1, va_rf l1), (2, va_rf l2), (3, .int l3)] [] 18 (mL_law_b18 k18 w l0 l1 l2 l3) := by
  unfold mL_law_b18
  refine V_iload_n (pc := 18) hk dL_law_18 3 rfl ?_
  refine V_aload_n (pc := 19) hk dL_law_19 0 rfl ?_
  refine V_alen (pc := 20) hk dL_law_20 (fun v1 => ?_)
  refine V_bipush (pc := 21) (v := 6) hk dL_law_21 rfl ?_
  refine V_isub (pc := 23) hk dL_law_23 ?_
  refine V_icmp_gt (pc := 24) (tgt := 1547) hk dL_law_24 rfl ?_ ?_
  · refine V_iconst (pc := 1547) (v := 1) hk dL_law_1547 rfl ?_
    exact V_lawret (pc := 1548) hk hR dL_law_1548
  · refine V_aload_n (pc := 27) hk dL_law_27 0 rfl ?_
    refine V_iload_n (pc := 28) hk dL_law_28 3 rfl ?_
    refine V_iaload (pc := 29) hk dL_law_29 (fun v2 => ?_)
    refine V_bipush (pc := 30) (v := 63) hk dL_law_30 rfl ?_
    refine V_iand (pc := 32) hk dL_law_32 ?_
    refine V_if (fun hx => ?_) (fun hn0 => ?_)
    · refine V_tblIn (pc := 33) (tgt := 228) (off := 195) hk 0 hx dL_law_33 (by decide) (by decide) (by decide +kernel) rfl ?_
      refine V_aload_n (pc := 228) hk dL_law_228 1 rfl ?_
      refine V_aload_n (pc := 229) hk dL_law_229 0 rfl ?_
      refine V_iload_n (pc := 230) hk dL_law_230 3 rfl ?_
      refine V_iconst (pc := 231) (v := 1) hk dL_law_231 rfl ?_
      refine V_iadd (pc := 232) hk dL_law_232 ?_
      refine V_iaload (pc := 233) hk dL_law_233 (fun v3 => ?_)
      refine V_aload_n (pc := 234) hk dL_law_234 0 rfl ?_
      refine V_iload_n (pc := 235) hk dL_law_235 3 rfl ?_
      refine V_iconst (pc := 236) (v := 2) hk dL_law_236 rfl ?_
      refine V_iadd (pc := 237) hk dL_law_237 ?_
      refine V_iaload (pc := 238) hk dL_law_238 (fun v4 => ?_)
      refine V_aload_n (pc := 239) hk dL_law_239 0 rfl ?_
      refine V_iload_n (pc := 240) hk dL_law_240 3 rfl ?_
      refine V_iconst (pc := 241) (v := 3) hk dL_law_241 rfl ?_
      refine V_iadd (pc := 242) hk dL_law_242 ?_
      refine V_iaload (pc := 243) hk dL_law_243 (fun v5 => ?_)
      refine V_aload_n (pc := 244) hk dL_law_244 0 rfl ?_
      refine V_iload_n (pc := 245) hk dL_law_245 3 rfl ?_
      refine V_iconst (pc := 246) (v := 4) hk dL_law_246 rfl ?_
      refine V_iadd (pc := 247) hk dL_law_247 ?_
      refine V_iaload (pc := 248) hk dL_law_248 (fun v6 => ?_)
      refine V_aload_n (pc := 249) hk dL_law_249 0 rfl ?_
      refine V_iload_n (pc := 250) hk dL_law_250 3 rfl ?_
      refine V_iconst (pc := 251) (v := 5) hk dL_law_251 rfl ?_
      refine V_iadd (pc := 252) hk dL_law_252 ?_
      refine V_iaload (pc := 253) hk dL_law_253 (fun v7 => ?_)
      refine n_L_13 (pc := 254) hk (fun b r h => ctX0_order (fl y) (fK y) hk.2.2.2.2.2.2.2.1 b v3 v4 v5 v6 v7 w r h) ⟨Nat.le_of_ble_eq_true rfl, Nat.le_of_ble_eq_true rfl⟩ (Nat.le_of_ble_eq_true rfl) dL_law_254 (fun r8 => ?_)
      refine V_aload_n (pc := 257) hk dL_law_257 2 rfl ?_
      refine V_aload_n (pc := 258) hk dL_law_258 0 rfl ?_
      refine V_iload_n (pc := 259) hk dL_law_259 3 rfl ?_
      refine V_iconst (pc := 260) (v := 1) hk dL_law_260 rfl ?_
      refine V_iadd (pc := 261) hk dL_law_261 ?_
      refine V_iaload (pc := 262) hk dL_law_262 (fun v10 => ?_)
      refine V_aload_n (pc := 263) hk dL_law_263 0 rfl ?_
      refine V_iload_n (pc := 264) hk dL_law_264 3 rfl ?_
      refine V_iconst (pc := 265) (v := 2) hk dL_law_265 rfl ?_
      refine V_iadd (pc := 266) hk dL_law_266 ?_
      refine V_iaload (pc := 267) hk dL_law_267 (fun v11 => ?_)
      refine V_aload_n (pc := 268) hk dL_law_268 0 rfl ?_
      refine V_iload_n (pc := 269) hk dL_law_269 3 rfl ?_
      refine V_iconst (pc := 270) (v := 3) hk dL_law_270 rfl ?_
      refine V_iadd (pc := 271) hk dL_law_271 ?_
      refine V_iaload (pc := 272) hk dL_law_272 (fun v12 => ?_)
      refine V_aload_n (pc := 273) hk dL_law_273 0 rfl ?_
      refine V_iload_n (pc := 274) hk dL_law_274 3 rfl ?_
      refine V_iconst (pc := 275) (v := 4) hk dL_law_275 rfl ?_
      refine V_iadd (pc := 276) hk dL_law_276 ?_
      refine V_iaload (pc := 277) hk dL_law_277 (fun v13 => ?_)
      refine V_aload_n (pc := 278) hk dL_law_278 0 rfl ?_
      refine V_iload_n (pc := 279) hk dL_law_279 3 rfl ?_
      refine V_iconst (pc := 280) (v := 5) hk dL_law_280 rfl ?_
      refine V_iadd (pc := 281) hk dL_law_281 ?_
      refine V_iaload (pc := 282) hk dL_law_282 (fun v14 => ?_)
      refine n_L_17 (pc := 283) hk (fun b r h => ctX2_order (fl y) (fK y) hk.2.2.2.2.2.2.2.1 b v10 v11 v12 v13 v14 r8.2 r h) ⟨Nat.le_of_ble_eq_true rfl, Nat.le_of_ble_eq_true rfl⟩ (Nat.le_of_ble_eq_true rfl) dL_law_283 (fun r15 => ?_)
      refine V_icmp_eq (pc := 286) (tgt := 1541) hk dL_law_286 rfl ?_ ?_
      · refine V_iinc (pc := 1541) (v := 6) (lc' := [(3, .int (l3 + 6)), (0, va_rf l0), (1, va_rf l1), (2, va_rf l2)]) hk dL_law_1541 3 rfl rfl (Nat.le_of_ble_eq_true rfl) (by simp [rf_cat, cat_int, cat_long, cat_ref]) ?_
        refine V_goto (pc := 1544) (tgt := 18) hk dL_law_1544 rfl ?_
        refine V_pick (lc' := [(0, va_rf l0), (1, va_rf l1), (2, va_rf l2), (3, .int (l3 + 6))]) [1, 2, 3, 0] rfl ?_
        exact h18 r15.2 l0 l1 l2 (l3 + 6)
      · refine V_iconst (pc := 289) (v := 0) hk dL_law_289 rfl ?_
        exact V_none
    refine V_if (fun hx => ?_) (fun hn1 => ?_)
    · refine V_tblIn (pc := 33) (tgt := 291) (off := 258) hk 1 hx dL_law_33 (by decide) (by decide) (by decide +kernel) rfl ?_
      refine V_aload_n (pc := 291) hk dL_law_291 1 rfl ?_
      refine V_aload_n (pc := 292) hk dL_law_292 0 rfl ?_
      refine V_iload_n (pc := 293) hk dL_law_293 3 rfl ?_
      refine V_iconst (pc := 294) (v := 1) hk dL_law_294 rfl ?_
      refine V_iadd (pc := 295) hk dL_law_295 ?_
      refine V_iaload (pc := 296) hk dL_law_296 (fun v17 => ?_)
      refine n_L_18 (pc := 297) hk (fun b r h => ctX0_near (fl y) (fK y) hk.2.2.2.2.2.2.2.1 b v17 w r h) ⟨Nat.le_of_ble_eq_true rfl, Nat.le_of_ble_eq_true rfl⟩ (Nat.le_of_ble_eq_true rfl) dL_law_297 (fun r18 => ?_)
      refine V_aload_n (pc := 300) hk dL_law_300 2 rfl ?_
      refine V_aload_n (pc := 301) hk dL_law_301 0 rfl ?_
      refine V_iload_n (pc := 302) hk dL_law_302 3 rfl ?_
      refine V_iconst (pc := 303) (v := 1) hk dL_law_303 rfl ?_
      refine V_iadd (pc := 304) hk dL_law_304 ?_
      refine V_iaload (pc := 305) hk dL_law_305 (fun v20 => ?_)
      refine n_L_22 (pc := 306) hk (fun b r h => ctX2_near (fl y) (fK y) hk.2.2.2.2.2.2.2.1 b v20 r18.2 r h) ⟨Nat.le_of_ble_eq_true rfl, Nat.le_of_ble_eq_true rfl⟩ (Nat.le_of_ble_eq_true rfl) dL_law_306 (fun r21 => ?_)
      refine V_icmp_eq (pc := 309) (tgt := 1541) hk dL_law_309 rfl ?_ ?_
      · refine V_iinc (pc := 1541) (v := 6) (lc' := [(3, .int (l3 + 6)), (0, va_rf l0), (1, va_rf l1), (2, va_rf l2)]) hk dL_law_1541 3 rfl rfl (Nat.le_of_ble_eq_true rfl) (by simp [rf_cat, cat_int, cat_long, cat_ref]) ?_
        refine V_goto (pc := 1544) (tgt := 18) hk dL_law_1544 rfl ?_
        refine V_pick (lc' := [(0, va_rf l0), (1, va_rf l1), (2, va_rf l2), (3, .int (l3 + 6))]) [1, 2, 3, 0] rfl ?_
        exact h18 r21.2 l0 l1 l2 (l3 + 6)
      · refine V_iconst (pc := 312) (v := 0) hk dL_law_312 rfl ?_
        exact V_none
    refine V_if (fun hx => ?_) (fun hn2 => ?_)
    · refine V_tblIn (pc := 33) (tgt := 314) (off := 281) hk 2 hx dL_law_33 (by decide) (by decide) (by decide +kernel) rfl ?_
      refine V_aload_n (pc := 314) hk dL_law_314 1 rfl ?_
      refine V_aload_n (pc := 315) hk dL_law_315 0 rfl ?_
      refine V_iload_n (pc := 316) hk dL_law_316 3 rfl ?_
      refine V_iconst (pc := 317) (v := 1) hk dL_law_317 rfl ?_
      refine V_iadd (pc := 318) hk dL_law_318 ?_
      refine V_iaload (pc := 319) hk dL_law_319 (fun v23 => ?_)
      refine V_aload_n (pc := 320) hk dL_law_320 0 rfl ?_
      refine V_iload_n (pc := 321) hk dL_law_321 3 rfl ?_
      refine V_iconst (pc := 322) (v := 2) hk dL_law_322 rfl ?_
      refine V_iadd (pc := 323) hk dL_law_323 ?_
      refine V_iaload (pc := 324) hk dL_law_324 (fun v24 => ?_)
      refine V_aload_n (pc := 325) hk dL_law_325 0 rfl ?_
      refine V_iload_n (pc := 326) hk dL_law_326 3 rfl ?_
      refine V_iconst (pc := 327) (v := 3) hk dL_law_327 rfl ?_
      refine V_iadd (pc := 328) hk dL_law_328 ?_
      refine V_iaload (pc := 329) hk dL_law_329 (fun v25 => ?_)
      refine V_aload_n (pc := 330) hk dL_law_330 0 rfl ?_
      refine V_iload_n (pc := 331) hk dL_law_331 3 rfl ?_
      refine V_iconst (pc := 332) (v := 4) hk dL_law_332 rfl ?_
      refine V_iadd (pc := 333) hk dL_law_333 ?_
      refine V_iaload (pc := 334) hk dL_law_334 (fun v26 => ?_)
      refine V_aload_n (pc := 335) hk dL_law_335 0 rfl ?_
      refine V_iload_n (pc := 336) hk dL_law_336 3 rfl ?_
      refine V_iconst (pc := 337) (v := 5) hk dL_law_337 rfl ?_
      refine V_iadd (pc := 338) hk dL_law_338 ?_
      refine V_iaload (pc := 339) hk dL_law_339 (fun v27 => ?_)
      refine n_L_23 (pc := 340) hk (fun b r h => ctX0_feed (fl y) (fK y) hk.2.2.2.2.2.2.2.1 b v23 v24 v25 v26 v27 w r h) ⟨Nat.le_of_ble_eq_true rfl, Nat.le_of_ble_eq_true rfl⟩ (Nat.le_of_ble_eq_true rfl) dL_law_340 (fun r28 => ?_)
      refine V_aload_n (pc := 343) hk dL_law_343 2 rfl ?_
      refine V_aload_n (pc := 344) hk dL_law_344 0 rfl ?_
      refine V_iload_n (pc := 345) hk dL_law_345 3 rfl ?_
      refine V_iconst (pc := 346) (v := 1) hk dL_law_346 rfl ?_
      refine V_iadd (pc := 347) hk dL_law_347 ?_
      refine V_iaload (pc := 348) hk dL_law_348 (fun v30 => ?_)
      refine V_aload_n (pc := 349) hk dL_law_349 0 rfl ?_
      refine V_iload_n (pc := 350) hk dL_law_350 3 rfl ?_
      refine V_iconst (pc := 351) (v := 2) hk dL_law_351 rfl ?_
      refine V_iadd (pc := 352) hk dL_law_352 ?_
      refine V_iaload (pc := 353) hk dL_law_353 (fun v31 => ?_)
      refine V_aload_n (pc := 354) hk dL_law_354 0 rfl ?_
      refine V_iload_n (pc := 355) hk dL_law_355 3 rfl ?_
      refine V_iconst (pc := 356) (v := 3) hk dL_law_356 rfl ?_
      refine V_iadd (pc := 357) hk dL_law_357 ?_
      refine V_iaload (pc := 358) hk dL_law_358 (fun v32 => ?_)
      refine V_aload_n (pc := 359) hk dL_law_359 0 rfl ?_
      refine V_iload_n (pc := 360) hk dL_law_360 3 rfl ?_
      refine V_iconst (pc := 361) (v := 4) hk dL_law_361 rfl ?_
      refine V_iadd (pc := 362) hk dL_law_362 ?_
      refine V_iaload (pc := 363) hk dL_law_363 (fun v33 => ?_)
      refine V_aload_n (pc := 364) hk dL_law_364 0 rfl ?_
      refine V_iload_n (pc := 365) hk dL_law_365 3 rfl ?_
      refine V_iconst (pc := 366) (v := 5) hk dL_law_366 rfl ?_
      refine V_iadd (pc := 367) hk dL_law_367 ?_
      refine V_iaload (pc := 368) hk dL_law_368 (fun v34 => ?_)
      refine n_L_26 (pc := 369) hk (fun b r h => ctX2_feed (fl y) (fK y) hk.2.2.2.2.2.2.2.1 b v30 v31 v32 v33 v34 r28.2 r h) ⟨Nat.le_of_ble_eq_true rfl, Nat.le_of_ble_eq_true rfl⟩ (Nat.le_of_ble_eq_true rfl) dL_law_369 (fun r35 => ?_)
      refine V_icmp_eq (pc := 372) (tgt := 1541) hk dL_law_372 rfl ?_ ?_
      · refine V_iinc (pc := 1541) (v := 6) (lc' := [(3, .int (l3 + 6)), (0, va_rf l0), (1, va_rf l1), (2, va_rf l2)]) hk dL_law_1541 3 rfl rfl (Nat.le_of_ble_eq_true rfl) (by simp [rf_cat, cat_int, cat_long, cat_ref]) ?_
        refine V_goto (pc := 1544) (tgt := 18) hk dL_law_1544 rfl ?_
        refine V_pick (lc' := [(0, va_rf l0), (1, va_rf l1), (2, va_rf l2), (3, .int (l3 + 6))]) [1, 2, 3, 0] rfl ?_
        exact h18 r35.2 l0 l1 l2 (l3 + 6)
      · refine V_iconst (pc := 375) (v := 0) hk dL_law_375 rfl ?_
        exact V_none
    refine V_if (fun hx => ?_) (fun hn3 => ?_)
    · refine V_tblIn (pc := 33) (tgt := 377) (off := 344) hk 3 hx dL_law_33 (by decide) (by decide) (by decide +kernel) rfl ?_
      refine V_aload_n (pc := 377) hk dL_law_377 1 rfl ?_
      refine V_aload_n (pc := 378) hk dL_law_378 0 rfl ?_
      refine V_iload_n (pc := 379) hk dL_law_379 3 rfl ?_
      refine V_iconst (pc := 380) (v := 1) hk dL_law_380 rfl ?_
      refine V_iadd (pc := 381) hk dL_law_381 ?_
      refine V_iaload (pc := 382) hk dL_law_382 (fun v37 => ?_)
      refine n_L_27 (pc := 383) hk (fun b r h => ctX0_end (fl y) (fK y) hk.2.2.2.2.2.2.2.1 b v37 w r h) ⟨Nat.le_of_ble_eq_true rfl, Nat.le_of_ble_eq_true rfl⟩ (Nat.le_of_ble_eq_true rfl) dL_law_383 (fun r38 => ?_)
      refine V_aload_n (pc := 386) hk dL_law_386 2 rfl ?_
      refine V_aload_n (pc := 387) hk dL_law_387 0 rfl ?_
      refine V_iload_n (pc := 388) hk dL_law_388 3 rfl ?_
      refine V_iconst (pc := 389) (v := 1) hk dL_law_389 rfl ?_
      refine V_iadd (pc := 390) hk dL_law_390 ?_
      refine V_iaload (pc := 391) hk dL_law_391 (fun v40 => ?_)
      refine n_L_31 (pc := 392) hk (fun b r h => ctX2_end (fl y) (fK y) hk.2.2.2.2.2.2.2.1 b v40 r38.2 r h) ⟨Nat.le_of_ble_eq_true rfl, Nat.le_of_ble_eq_true rfl⟩ (Nat.le_of_ble_eq_true rfl) dL_law_392 (fun r41 => ?_)
      refine V_icmp_eq (pc := 395) (tgt := 1541) hk dL_law_395 rfl ?_ ?_
      · refine V_iinc (pc := 1541) (v := 6) (lc' := [(3, .int (l3 + 6)), (0, va_rf l0), (1, va_rf l1), (2, va_rf l2)]) hk dL_law_1541 3 rfl rfl (Nat.le_of_ble_eq_true rfl) (by simp [rf_cat, cat_int, cat_long, cat_ref]) ?_
        refine V_goto (pc := 1544) (tgt := 18) hk dL_law_1544 rfl ?_
        refine V_pick (lc' := [(0, va_rf l0), (1, va_rf l1), (2, va_rf l2), (3, .int (l3 + 6))]) [1, 2, 3, 0] rfl ?_
        exact h18 r41.2 l0 l1 l2 (l3 + 6)
      · refine V_iconst (pc := 398) (v := 0) hk dL_law_398 rfl ?_
        exact V_none
    refine V_if (fun hx => ?_) (fun hn4 => ?_)
    · refine V_tblIn (pc := 33) (tgt := 400) (off := 367) hk 4 hx dL_law_33 (by decide) (by decide) (by decide +kernel) rfl ?_
      refine V_aload_n (pc := 400) hk dL_law_400 1 rfl ?_
      refine n_L_32 (pc := 401) hk (fun b r h => ctX0_text (fl y) (fK y) hk.2.2.2.2.2.2.2.1 hst b w r h) ⟨Nat.le_of_ble_eq_true rfl, Nat.le_of_ble_eq_true rfl⟩ (Nat.le_of_ble_eq_true rfl) dL_law_401 (fun r43 => ?_)
      refine V_aload_n (pc := 404) hk dL_law_404 2 rfl ?_
      refine n_L_36 (pc := 405) hk (fun b r h => ctX2_text (fl y) (fK y) hk.2.2.2.2.2.2.2.1 b r43.2 r h) ⟨Nat.le_of_ble_eq_true rfl, Nat.le_of_ble_eq_true rfl⟩ (Nat.le_of_ble_eq_true rfl) dL_law_405 (fun r45 => ?_)
      refine V_icmp_eq (pc := 408) (tgt := 1541) hk dL_law_408 rfl ?_ ?_
      · refine V_iinc (pc := 1541) (v := 6) (lc' := [(3, .int (l3 + 6)), (0, va_rf l0), (1, va_rf l1), (2, va_rf l2)]) hk dL_law_1541 3 rfl rfl (Nat.le_of_ble_eq_true rfl) (by simp [rf_cat, cat_int, cat_long, cat_ref]) ?_
        refine V_goto (pc := 1544) (tgt := 18) hk dL_law_1544 rfl ?_
        refine V_pick (lc' := [(0, va_rf l0), (1, va_rf l1), (2, va_rf l2), (3, .int (l3 + 6))]) [1, 2, 3, 0] rfl ?_
        exact h18 r45.2 l0 l1 l2 (l3 + 6)
      · refine V_iconst (pc := 411) (v := 0) hk dL_law_411 rfl ?_
        exact V_none
    refine V_if (fun hx => ?_) (fun hn5 => ?_)
    · refine V_tblIn (pc := 33) (tgt := 413) (off := 380) hk 5 hx dL_law_33 (by decide) (by decide) (by decide +kernel) rfl ?_
      refine V_aload_n (pc := 413) hk dL_law_413 1 rfl ?_
      refine V_aload_n (pc := 414) hk dL_law_414 0 rfl ?_
      refine V_iload_n (pc := 415) hk dL_law_415 3 rfl ?_
      refine V_iconst (pc := 416) (v := 1) hk dL_law_416 rfl ?_
      refine V_iadd (pc := 417) hk dL_law_417 ?_
      refine V_iaload (pc := 418) hk dL_law_418 (fun v47 => ?_)
      refine n_L_37 (pc := 419) hk (fun b r h => ctX0_fault (fl y) (fK y) hk.2.2.2.2.2.2.2.1 b v47 w r h) ⟨Nat.le_of_ble_eq_true rfl, Nat.le_of_ble_eq_true rfl⟩ (Nat.le_of_ble_eq_true rfl) dL_law_419 (fun r48 => ?_)
      refine V_aload_n (pc := 422) hk dL_law_422 2 rfl ?_
      refine V_aload_n (pc := 423) hk dL_law_423 0 rfl ?_
      refine V_iload_n (pc := 424) hk dL_law_424 3 rfl ?_
      refine V_iconst (pc := 425) (v := 1) hk dL_law_425 rfl ?_
      refine V_iadd (pc := 426) hk dL_law_426 ?_
      refine V_iaload (pc := 427) hk dL_law_427 (fun v50 => ?_)
      refine n_L_40 (pc := 428) hk (fun b r h => ctX2_fault (fl y) (fK y) hk.2.2.2.2.2.2.2.1 b v50 r48.2 r h) ⟨Nat.le_of_ble_eq_true rfl, Nat.le_of_ble_eq_true rfl⟩ (Nat.le_of_ble_eq_true rfl) dL_law_428 (fun r51 => ?_)
      refine V_icmp_eq (pc := 431) (tgt := 1541) hk dL_law_431 rfl ?_ ?_
      · refine V_iinc (pc := 1541) (v := 6) (lc' := [(3, .int (l3 + 6)), (0, va_rf l0), (1, va_rf l1), (2, va_rf l2)]) hk dL_law_1541 3 rfl rfl (Nat.le_of_ble_eq_true rfl) (by simp [rf_cat, cat_int, cat_long, cat_ref]) ?_
        refine V_goto (pc := 1544) (tgt := 18) hk dL_law_1544 rfl ?_
        refine V_pick (lc' := [(0, va_rf l0), (1, va_rf l1), (2, va_rf l2), (3, .int (l3 + 6))]) [1, 2, 3, 0] rfl ?_
        exact h18 r51.2 l0 l1 l2 (l3 + 6)
      · refine V_iconst (pc := 434) (v := 0) hk dL_law_434 rfl ?_
        exact V_none
    refine V_if (fun hx => ?_) (fun hn6 => ?_)
    · refine V_tblIn (pc := 33) (tgt := 436) (off := 403) hk 6 hx dL_law_33 (by decide) (by decide) (by decide +kernel) rfl ?_
      refine V_aload_n (pc := 436) hk dL_law_436 1 rfl ?_
      refine V_aload_n (pc := 437) hk dL_law_437 0 rfl ?_
      refine V_iload_n (pc := 438) hk dL_law_438 3 rfl ?_
      refine V_iconst (pc := 439) (v := 1) hk dL_law_439 rfl ?_
      refine V_iadd (pc := 440) hk dL_law_440 ?_
      refine V_iaload (pc := 441) hk dL_law_441 (fun v53 => ?_)
      refine n_L_41 (pc := 442) hk (fun b r h => ctX0_by (fl y) (fK y) hk.2.2.2.2.2.2.2.1 b v53 w r h) ⟨Nat.le_of_ble_eq_true rfl, Nat.le_of_ble_eq_true rfl⟩ (Nat.le_of_ble_eq_true rfl) dL_law_442 (fun r54 => ?_)
      refine V_aload_n (pc := 445) hk dL_law_445 2 rfl ?_
      refine V_aload_n (pc := 446) hk dL_law_446 0 rfl ?_
      refine V_iload_n (pc := 447) hk dL_law_447 3 rfl ?_
      refine V_iconst (pc := 448) (v := 1) hk dL_law_448 rfl ?_
      refine V_iadd (pc := 449) hk dL_law_449 ?_
      refine V_iaload (pc := 450) hk dL_law_450 (fun v56 => ?_)
      refine n_L_44 (pc := 451) hk (fun b r h => ctX2_by (fl y) (fK y) hk.2.2.2.2.2.2.2.1 b v56 r54.2 r h) ⟨Nat.le_of_ble_eq_true rfl, Nat.le_of_ble_eq_true rfl⟩ (Nat.le_of_ble_eq_true rfl) dL_law_451 (fun r57 => ?_)
      refine V_icmp_eq (pc := 454) (tgt := 1541) hk dL_law_454 rfl ?_ ?_
      · refine V_iinc (pc := 1541) (v := 6) (lc' := [(3, .int (l3 + 6)), (0, va_rf l0), (1, va_rf l1), (2, va_rf l2)]) hk dL_law_1541 3 rfl rfl (Nat.le_of_ble_eq_true rfl) (by simp [rf_cat, cat_int, cat_long, cat_ref]) ?_
        refine V_goto (pc := 1544) (tgt := 18) hk dL_law_1544 rfl ?_
        refine V_pick (lc' := [(0, va_rf l0), (1, va_rf l1), (2, va_rf l2), (3, .int (l3 + 6))]) [1, 2, 3, 0] rfl ?_
        exact h18 r57.2 l0 l1 l2 (l3 + 6)
      · refine V_iconst (pc := 457) (v := 0) hk dL_law_457 rfl ?_
        exact V_none
    refine V_if (fun hx => ?_) (fun hn7 => ?_)
    · refine V_tblIn (pc := 33) (tgt := 459) (off := 426) hk 7 hx dL_law_33 (by decide) (by decide) (by decide +kernel) rfl ?_
      refine V_aload_n (pc := 459) hk dL_law_459 1 rfl ?_
      refine V_aload_n (pc := 460) hk dL_law_460 0 rfl ?_
      refine V_iload_n (pc := 461) hk dL_law_461 3 rfl ?_
      refine V_iconst (pc := 462) (v := 1) hk dL_law_462 rfl ?_
      refine V_iadd (pc := 463) hk dL_law_463 ?_
      refine V_iaload (pc := 464) hk dL_law_464 (fun v59 => ?_)
      refine n_L_45 (pc := 465) hk (fun b r h => ctX0_move (fl y) (fK y) hk.2.2.2.2.2.2.2.1 b v59 w r h) ⟨Nat.le_of_ble_eq_true rfl, Nat.le_of_ble_eq_true rfl⟩ (Nat.le_of_ble_eq_true rfl) dL_law_465 (fun r60 => ?_)
      refine V_aload_n (pc := 468) hk dL_law_468 2 rfl ?_
      refine V_aload_n (pc := 469) hk dL_law_469 0 rfl ?_
      refine V_iload_n (pc := 470) hk dL_law_470 3 rfl ?_
      refine V_iconst (pc := 471) (v := 1) hk dL_law_471 rfl ?_
      refine V_iadd (pc := 472) hk dL_law_472 ?_
      refine V_iaload (pc := 473) hk dL_law_473 (fun v62 => ?_)
      refine n_L_48 (pc := 474) hk (fun b r h => ctX2_move (fl y) (fK y) hk.2.2.2.2.2.2.2.1 b v62 r60.2 r h) ⟨Nat.le_of_ble_eq_true rfl, Nat.le_of_ble_eq_true rfl⟩ (Nat.le_of_ble_eq_true rfl) dL_law_474 (fun r63 => ?_)
      refine V_icmp_eq (pc := 477) (tgt := 1541) hk dL_law_477 rfl ?_ ?_
      · refine V_iinc (pc := 1541) (v := 6) (lc' := [(3, .int (l3 + 6)), (0, va_rf l0), (1, va_rf l1), (2, va_rf l2)]) hk dL_law_1541 3 rfl rfl (Nat.le_of_ble_eq_true rfl) (by simp [rf_cat, cat_int, cat_long, cat_ref]) ?_
        refine V_goto (pc := 1544) (tgt := 18) hk dL_law_1544 rfl ?_
        refine V_pick (lc' := [(0, va_rf l0), (1, va_rf l1), (2, va_rf l2), (3, .int (l3 + 6))]) [1, 2, 3, 0] rfl ?_
        exact h18 r63.2 l0 l1 l2 (l3 + 6)
      · refine V_iconst (pc := 480) (v := 0) hk dL_law_480 rfl ?_
        exact V_none
    refine V_if (fun hx => ?_) (fun hn8 => ?_)
    · refine V_tblIn (pc := 33) (tgt := 482) (off := 449) hk 8 hx dL_law_33 (by decide) (by decide) (by decide +kernel) rfl ?_
      refine V_aload_n (pc := 482) hk dL_law_482 1 rfl ?_
      refine V_aload_n (pc := 483) hk dL_law_483 0 rfl ?_
      refine V_iload_n (pc := 484) hk dL_law_484 3 rfl ?_
      refine V_iconst (pc := 485) (v := 1) hk dL_law_485 rfl ?_
      refine V_iadd (pc := 486) hk dL_law_486 ?_
      refine V_iaload (pc := 487) hk dL_law_487 (fun v65 => ?_)
      refine n_L_49 (pc := 488) hk (fun b r h => ctX0_run (fl y) (fK y) hk.2.2.2.2.2.2.2.1 b v65 w r h) ⟨Nat.le_of_ble_eq_true rfl, Nat.le_of_ble_eq_true rfl⟩ (Nat.le_of_ble_eq_true rfl) dL_law_488 (fun r66 => ?_)
      refine V_aload_n (pc := 491) hk dL_law_491 2 rfl ?_
      refine V_aload_n (pc := 492) hk dL_law_492 0 rfl ?_
      refine V_iload_n (pc := 493) hk dL_law_493 3 rfl ?_
      refine V_iconst (pc := 494) (v := 1) hk dL_law_494 rfl ?_
      refine V_iadd (pc := 495) hk dL_law_495 ?_
      refine V_iaload (pc := 496) hk dL_law_496 (fun v68 => ?_)
      refine n_L_52 (pc := 497) hk (fun b r h => ctX2_run (fl y) (fK y) hk.2.2.2.2.2.2.2.1 b v68 r66.2 r h) ⟨Nat.le_of_ble_eq_true rfl, Nat.le_of_ble_eq_true rfl⟩ (Nat.le_of_ble_eq_true rfl) dL_law_497 (fun r69 => ?_)
      refine V_icmp_eq (pc := 500) (tgt := 1541) hk dL_law_500 rfl ?_ ?_
      · refine V_iinc (pc := 1541) (v := 6) (lc' := [(3, .int (l3 + 6)), (0, va_rf l0), (1, va_rf l1), (2, va_rf l2)]) hk dL_law_1541 3 rfl rfl (Nat.le_of_ble_eq_true rfl) (by simp [rf_cat, cat_int, cat_long, cat_ref]) ?_
        refine V_goto (pc := 1544) (tgt := 18) hk dL_law_1544 rfl ?_
        refine V_pick (lc' := [(0, va_rf l0), (1, va_rf l1), (2, va_rf l2), (3, .int (l3 + 6))]) [1, 2, 3, 0] rfl ?_
        exact h18 r69.2 l0 l1 l2 (l3 + 6)
      · refine V_iconst (pc := 503) (v := 0) hk dL_law_503 rfl ?_
        exact V_none
    refine V_if (fun hx => ?_) (fun hn9 => ?_)
    · refine V_tblIn (pc := 33) (tgt := 505) (off := 472) hk 9 hx dL_law_33 (by decide) (by decide) (by decide +kernel) rfl ?_
      refine V_aload_n (pc := 505) hk dL_law_505 1 rfl ?_
      refine V_aload_n (pc := 506) hk dL_law_506 0 rfl ?_
      refine V_iload_n (pc := 507) hk dL_law_507 3 rfl ?_
      refine V_iconst (pc := 508) (v := 1) hk dL_law_508 rfl ?_
      refine V_iadd (pc := 509) hk dL_law_509 ?_
      refine V_iaload (pc := 510) hk dL_law_510 (fun v71 => ?_)
      refine n_L_53 (pc := 511) hk (fun b r h => ctX0_hoist (fl y) (fK y) hk.2.2.2.2.2.2.2.1 b v71 w r h) ⟨Nat.le_of_ble_eq_true rfl, Nat.le_of_ble_eq_true rfl⟩ (Nat.le_of_ble_eq_true rfl) dL_law_511 (fun r72 => ?_)
      refine V_aload_n (pc := 514) hk dL_law_514 2 rfl ?_
      refine V_aload_n (pc := 515) hk dL_law_515 0 rfl ?_
      refine V_iload_n (pc := 516) hk dL_law_516 3 rfl ?_
      refine V_iconst (pc := 517) (v := 1) hk dL_law_517 rfl ?_
      refine V_iadd (pc := 518) hk dL_law_518 ?_
      refine V_iaload (pc := 519) hk dL_law_519 (fun v74 => ?_)
      refine n_L_56 (pc := 520) hk (fun b r h => ctX2_hoist (fl y) (fK y) hk.2.2.2.2.2.2.2.1 b v74 r72.2 r h) ⟨Nat.le_of_ble_eq_true rfl, Nat.le_of_ble_eq_true rfl⟩ (Nat.le_of_ble_eq_true rfl) dL_law_520 (fun r75 => ?_)
      refine V_icmp_eq (pc := 523) (tgt := 1541) hk dL_law_523 rfl ?_ ?_
      · refine V_iinc (pc := 1541) (v := 6) (lc' := [(3, .int (l3 + 6)), (0, va_rf l0), (1, va_rf l1), (2, va_rf l2)]) hk dL_law_1541 3 rfl rfl (Nat.le_of_ble_eq_true rfl) (by simp [rf_cat, cat_int, cat_long, cat_ref]) ?_
        refine V_goto (pc := 1544) (tgt := 18) hk dL_law_1544 rfl ?_
        refine V_pick (lc' := [(0, va_rf l0), (1, va_rf l1), (2, va_rf l2), (3, .int (l3 + 6))]) [1, 2, 3, 0] rfl ?_
        exact h18 r75.2 l0 l1 l2 (l3 + 6)
      · refine V_iconst (pc := 526) (v := 0) hk dL_law_526 rfl ?_
        exact V_none
    refine V_if (fun hx => ?_) (fun hn10 => ?_)
    · refine V_tblIn (pc := 33) (tgt := 528) (off := 495) hk 10 hx dL_law_33 (by decide) (by decide) (by decide +kernel) rfl ?_
      refine V_aload_n (pc := 528) hk dL_law_528 1 rfl ?_
      refine V_aload_n (pc := 529) hk dL_law_529 0 rfl ?_
      refine V_iload_n (pc := 530) hk dL_law_530 3 rfl ?_
      refine V_iconst (pc := 531) (v := 1) hk dL_law_531 rfl ?_
      refine V_iadd (pc := 532) hk dL_law_532 ?_
      refine V_iaload (pc := 533) hk dL_law_533 (fun v77 => ?_)
      refine n_L_57 (pc := 534) hk (fun b r h => ctX0_aim (fl y) (fK y) hk.2.2.2.2.2.2.2.1 b v77 w r h) ⟨Nat.le_of_ble_eq_true rfl, Nat.le_of_ble_eq_true rfl⟩ (Nat.le_of_ble_eq_true rfl) dL_law_534 (fun r78 => ?_)
      refine V_aload_n (pc := 537) hk dL_law_537 2 rfl ?_
      refine V_aload_n (pc := 538) hk dL_law_538 0 rfl ?_
      refine V_iload_n (pc := 539) hk dL_law_539 3 rfl ?_
      refine V_iconst (pc := 540) (v := 1) hk dL_law_540 rfl ?_
      refine V_iadd (pc := 541) hk dL_law_541 ?_
      refine V_iaload (pc := 542) hk dL_law_542 (fun v80 => ?_)
      refine n_L_60 (pc := 543) hk (fun b r h => ctX2_aim (fl y) (fK y) hk.2.2.2.2.2.2.2.1 b v80 r78.2 r h) ⟨Nat.le_of_ble_eq_true rfl, Nat.le_of_ble_eq_true rfl⟩ (Nat.le_of_ble_eq_true rfl) dL_law_543 (fun r81 => ?_)
      refine V_icmp_eq (pc := 546) (tgt := 1541) hk dL_law_546 rfl ?_ ?_
      · refine V_iinc (pc := 1541) (v := 6) (lc' := [(3, .int (l3 + 6)), (0, va_rf l0), (1, va_rf l1), (2, va_rf l2)]) hk dL_law_1541 3 rfl rfl (Nat.le_of_ble_eq_true rfl) (by simp [rf_cat, cat_int, cat_long, cat_ref]) ?_
        refine V_goto (pc := 1544) (tgt := 18) hk dL_law_1544 rfl ?_
        refine V_pick (lc' := [(0, va_rf l0), (1, va_rf l1), (2, va_rf l2), (3, .int (l3 + 6))]) [1, 2, 3, 0] rfl ?_
        exact h18 r81.2 l0 l1 l2 (l3 + 6)
      · refine V_iconst (pc := 549) (v := 0) hk dL_law_549 rfl ?_
        exact V_none
    refine V_if (fun hx => ?_) (fun hn11 => ?_)
    · refine V_tblIn (pc := 33) (tgt := 551) (off := 518) hk 11 hx dL_law_33 (by decide) (by decide) (by decide +kernel) rfl ?_
      refine V_aload_n (pc := 551) hk dL_law_551 1 rfl ?_
      refine V_aload_n (pc := 552) hk dL_law_552 0 rfl ?_
      refine V_iload_n (pc := 553) hk dL_law_553 3 rfl ?_
      refine V_iconst (pc := 554) (v := 1) hk dL_law_554 rfl ?_
      refine V_iadd (pc := 555) hk dL_law_555 ?_
      refine V_iaload (pc := 556) hk dL_law_556 (fun v83 => ?_)
      refine n_L_61 (pc := 557) hk (fun b r h => ctX0_hook (fl y) (fK y) hk.2.2.2.2.2.2.2.1 b v83 w r h) ⟨Nat.le_of_ble_eq_true rfl, Nat.le_of_ble_eq_true rfl⟩ (Nat.le_of_ble_eq_true rfl) dL_law_557 (fun r84 => ?_)
      refine V_aload_n (pc := 560) hk dL_law_560 2 rfl ?_
      refine V_aload_n (pc := 561) hk dL_law_561 0 rfl ?_
      refine V_iload_n (pc := 562) hk dL_law_562 3 rfl ?_
      refine V_iconst (pc := 563) (v := 1) hk dL_law_563 rfl ?_
      refine V_iadd (pc := 564) hk dL_law_564 ?_
      refine V_iaload (pc := 565) hk dL_law_565 (fun v86 => ?_)
      refine n_L_64 (pc := 566) hk (fun b r h => ctX2_hook (fl y) (fK y) hk.2.2.2.2.2.2.2.1 b v86 r84.2 r h) ⟨Nat.le_of_ble_eq_true rfl, Nat.le_of_ble_eq_true rfl⟩ (Nat.le_of_ble_eq_true rfl) dL_law_566 (fun r87 => ?_)
      refine V_icmp_eq (pc := 569) (tgt := 1541) hk dL_law_569 rfl ?_ ?_
      · refine V_iinc (pc := 1541) (v := 6) (lc' := [(3, .int (l3 + 6)), (0, va_rf l0), (1, va_rf l1), (2, va_rf l2)]) hk dL_law_1541 3 rfl rfl (Nat.le_of_ble_eq_true rfl) (by simp [rf_cat, cat_int, cat_long, cat_ref]) ?_
        refine V_goto (pc := 1544) (tgt := 18) hk dL_law_1544 rfl ?_
        refine V_pick (lc' := [(0, va_rf l0), (1, va_rf l1), (2, va_rf l2), (3, .int (l3 + 6))]) [1, 2, 3, 0] rfl ?_
        exact h18 r87.2 l0 l1 l2 (l3 + 6)
      · refine V_iconst (pc := 572) (v := 0) hk dL_law_572 rfl ?_
        exact V_none
    refine V_if (fun hx => ?_) (fun hn12 => ?_)
    · refine V_tblIn (pc := 33) (tgt := 574) (off := 541) hk 12 hx dL_law_33 (by decide) (by decide) (by decide +kernel) rfl ?_
      refine V_aload_n (pc := 574) hk dL_law_574 1 rfl ?_
      refine n_L_65 (pc := 575) hk (fun b r h => ctX0_land (fl y) (fK y) hk.2.2.2.2.2.2.2.1 b w r h) ⟨Nat.le_of_ble_eq_true rfl, Nat.le_of_ble_eq_true rfl⟩ (Nat.le_of_ble_eq_true rfl) dL_law_575 (fun r89 => ?_)
      refine V_aload_n (pc := 578) hk dL_law_578 2 rfl ?_
      refine n_L_68 (pc := 579) hk (fun b r h => ctX2_land (fl y) (fK y) hk.2.2.2.2.2.2.2.1 b r89.2 r h) ⟨Nat.le_of_ble_eq_true rfl, Nat.le_of_ble_eq_true rfl⟩ (Nat.le_of_ble_eq_true rfl) dL_law_579 (fun r91 => ?_)
      refine V_icmp_eq (pc := 582) (tgt := 1541) hk dL_law_582 rfl ?_ ?_
      · refine V_iinc (pc := 1541) (v := 6) (lc' := [(3, .int (l3 + 6)), (0, va_rf l0), (1, va_rf l1), (2, va_rf l2)]) hk dL_law_1541 3 rfl rfl (Nat.le_of_ble_eq_true rfl) (by simp [rf_cat, cat_int, cat_long, cat_ref]) ?_
        refine V_goto (pc := 1544) (tgt := 18) hk dL_law_1544 rfl ?_
        refine V_pick (lc' := [(0, va_rf l0), (1, va_rf l1), (2, va_rf l2), (3, .int (l3 + 6))]) [1, 2, 3, 0] rfl ?_
        exact h18 r91.2 l0 l1 l2 (l3 + 6)
      · refine V_iconst (pc := 585) (v := 0) hk dL_law_585 rfl ?_
        exact V_none
    refine V_if (fun hx => ?_) (fun hn13 => ?_)
    · refine V_tblIn (pc := 33) (tgt := 587) (off := 554) hk 13 hx dL_law_33 (by decide) (by decide) (by decide +kernel) rfl ?_
      refine V_aload_n (pc := 587) hk dL_law_587 1 rfl ?_
      refine V_aload_n (pc := 588) hk dL_law_588 0 rfl ?_
      refine V_iload_n (pc := 589) hk dL_law_589 3 rfl ?_
      refine V_iconst (pc := 590) (v := 1) hk dL_law_590 rfl ?_
      refine V_iadd (pc := 591) hk dL_law_591 ?_
      refine V_iaload (pc := 592) hk dL_law_592 (fun v93 => ?_)
      refine n_L_69 (pc := 593) hk (fun b r h => ctX0_played (fl y) (fK y) hk.2.2.2.2.2.2.2.1 b v93 w r h) ⟨Nat.le_of_ble_eq_true rfl, Nat.le_of_ble_eq_true rfl⟩ (Nat.le_of_ble_eq_true rfl) dL_law_593 (fun r94 => ?_)
      refine V_aload_n (pc := 596) hk dL_law_596 2 rfl ?_
      refine V_aload_n (pc := 597) hk dL_law_597 0 rfl ?_
      refine V_iload_n (pc := 598) hk dL_law_598 3 rfl ?_
      refine V_iconst (pc := 599) (v := 1) hk dL_law_599 rfl ?_
      refine V_iadd (pc := 600) hk dL_law_600 ?_
      refine V_iaload (pc := 601) hk dL_law_601 (fun v96 => ?_)
      refine n_L_72 (pc := 602) hk (fun b r h => ctX2_played (fl y) (fK y) hk.2.2.2.2.2.2.2.1 b v96 r94.2 r h) ⟨Nat.le_of_ble_eq_true rfl, Nat.le_of_ble_eq_true rfl⟩ (Nat.le_of_ble_eq_true rfl) dL_law_602 (fun r97 => ?_)
      refine V_icmp_eq (pc := 605) (tgt := 1541) hk dL_law_605 rfl ?_ ?_
      · refine V_iinc (pc := 1541) (v := 6) (lc' := [(3, .int (l3 + 6)), (0, va_rf l0), (1, va_rf l1), (2, va_rf l2)]) hk dL_law_1541 3 rfl rfl (Nat.le_of_ble_eq_true rfl) (by simp [rf_cat, cat_int, cat_long, cat_ref]) ?_
        refine V_goto (pc := 1544) (tgt := 18) hk dL_law_1544 rfl ?_
        refine V_pick (lc' := [(0, va_rf l0), (1, va_rf l1), (2, va_rf l2), (3, .int (l3 + 6))]) [1, 2, 3, 0] rfl ?_
        exact h18 r97.2 l0 l1 l2 (l3 + 6)
      · refine V_iconst (pc := 608) (v := 0) hk dL_law_608 rfl ?_
        exact V_none
    refine V_if (fun hx => ?_) (fun hn14 => ?_)
    · refine V_tblIn (pc := 33) (tgt := 610) (off := 577) hk 14 hx dL_law_33 (by decide) (by decide) (by decide +kernel) rfl ?_
      refine V_aload_n (pc := 610) hk dL_law_610 1 rfl ?_
      refine V_aload_n (pc := 611) hk dL_law_611 0 rfl ?_
      refine V_iload_n (pc := 612) hk dL_law_612 3 rfl ?_
      refine V_iconst (pc := 613) (v := 1) hk dL_law_613 rfl ?_
      refine V_iadd (pc := 614) hk dL_law_614 ?_
      refine V_iaload (pc := 615) hk dL_law_615 (fun v99 => ?_)
      refine V_aload_n (pc := 616) hk dL_law_616 0 rfl ?_
      refine V_iload_n (pc := 617) hk dL_law_617 3 rfl ?_
      refine V_iconst (pc := 618) (v := 2) hk dL_law_618 rfl ?_
      refine V_iadd (pc := 619) hk dL_law_619 ?_
      refine V_iaload (pc := 620) hk dL_law_620 (fun v100 => ?_)
      refine n_L_73 (pc := 621) hk (fun b r h => ctX0_storm (fl y) (fK y) hk.2.2.2.2.2.2.2.1 b v99 v100 w r h) ⟨Nat.le_of_ble_eq_true rfl, Nat.le_of_ble_eq_true rfl⟩ (Nat.le_of_ble_eq_true rfl) dL_law_621 (fun r101 => ?_)
      refine V_aload_n (pc := 624) hk dL_law_624 2 rfl ?_
      refine V_aload_n (pc := 625) hk dL_law_625 0 rfl ?_
      refine V_iload_n (pc := 626) hk dL_law_626 3 rfl ?_
      refine V_iconst (pc := 627) (v := 1) hk dL_law_627 rfl ?_
      refine V_iadd (pc := 628) hk dL_law_628 ?_
      refine V_iaload (pc := 629) hk dL_law_629 (fun v103 => ?_)
      refine V_aload_n (pc := 630) hk dL_law_630 0 rfl ?_
      refine V_iload_n (pc := 631) hk dL_law_631 3 rfl ?_
      refine V_iconst (pc := 632) (v := 2) hk dL_law_632 rfl ?_
      refine V_iadd (pc := 633) hk dL_law_633 ?_
      refine V_iaload (pc := 634) hk dL_law_634 (fun v104 => ?_)
      refine n_L_77 (pc := 635) hk (fun b r h => ctX2_storm (fl y) (fK y) hk.2.2.2.2.2.2.2.1 b v103 v104 r101.2 r h) ⟨Nat.le_of_ble_eq_true rfl, Nat.le_of_ble_eq_true rfl⟩ (Nat.le_of_ble_eq_true rfl) dL_law_635 (fun r105 => ?_)
      refine V_icmp_eq (pc := 638) (tgt := 1541) hk dL_law_638 rfl ?_ ?_
      · refine V_iinc (pc := 1541) (v := 6) (lc' := [(3, .int (l3 + 6)), (0, va_rf l0), (1, va_rf l1), (2, va_rf l2)]) hk dL_law_1541 3 rfl rfl (Nat.le_of_ble_eq_true rfl) (by simp [rf_cat, cat_int, cat_long, cat_ref]) ?_
        refine V_goto (pc := 1544) (tgt := 18) hk dL_law_1544 rfl ?_
        refine V_pick (lc' := [(0, va_rf l0), (1, va_rf l1), (2, va_rf l2), (3, .int (l3 + 6))]) [1, 2, 3, 0] rfl ?_
        exact h18 r105.2 l0 l1 l2 (l3 + 6)
      · refine V_iconst (pc := 641) (v := 0) hk dL_law_641 rfl ?_
        exact V_none
    refine V_if (fun hx => ?_) (fun hn15 => ?_)
    · refine V_tblIn (pc := 33) (tgt := 643) (off := 610) hk 15 hx dL_law_33 (by decide) (by decide) (by decide +kernel) rfl ?_
      refine V_aload_n (pc := 643) hk dL_law_643 1 rfl ?_
      refine n_L_78 (pc := 644) hk (fun b r h => ctX0_undo (fl y) (fK y) hk.2.2.2.2.2.2.2.1 b w r h) ⟨Nat.le_of_ble_eq_true rfl, Nat.le_of_ble_eq_true rfl⟩ (Nat.le_of_ble_eq_true rfl) dL_law_644 (fun r107 => ?_)
      refine V_aload_n (pc := 647) hk dL_law_647 2 rfl ?_
      refine n_L_81 (pc := 648) hk (fun b r h => ctX2_undo (fl y) (fK y) hk.2.2.2.2.2.2.2.1 b r107.2 r h) ⟨Nat.le_of_ble_eq_true rfl, Nat.le_of_ble_eq_true rfl⟩ (Nat.le_of_ble_eq_true rfl) dL_law_648 (fun r109 => ?_)
      refine V_icmp_eq (pc := 651) (tgt := 1541) hk dL_law_651 rfl ?_ ?_
      · refine V_iinc (pc := 1541) (v := 6) (lc' := [(3, .int (l3 + 6)), (0, va_rf l0), (1, va_rf l1), (2, va_rf l2)]) hk dL_law_1541 3 rfl rfl (Nat.le_of_ble_eq_true rfl) (by simp [rf_cat, cat_int, cat_long, cat_ref]) ?_
        refine V_goto (pc := 1544) (tgt := 18) hk dL_law_1544 rfl ?_
        refine V_pick (lc' := [(0, va_rf l0), (1, va_rf l1), (2, va_rf l2), (3, .int (l3 + 6))]) [1, 2, 3, 0] rfl ?_
        exact h18 r109.2 l0 l1 l2 (l3 + 6)
      · refine V_iconst (pc := 654) (v := 0) hk dL_law_654 rfl ?_
        exact V_none
    refine V_if (fun hx => ?_) (fun hn16 => ?_)
    · refine V_tblIn (pc := 33) (tgt := 656) (off := 623) hk 16 hx dL_law_33 (by decide) (by decide) (by decide +kernel) rfl ?_
      refine V_aload_n (pc := 656) hk dL_law_656 1 rfl ?_
      refine V_aload_n (pc := 657) hk dL_law_657 0 rfl ?_
      refine V_iload_n (pc := 658) hk dL_law_658 3 rfl ?_
      refine V_iconst (pc := 659) (v := 1) hk dL_law_659 rfl ?_
      refine V_iadd (pc := 660) hk dL_law_660 ?_
      refine V_iaload (pc := 661) hk dL_law_661 (fun v111 => ?_)
      refine n_L_82 (pc := 662) hk (fun b r h => ctX0_jib (fl y) (fK y) hk.2.2.2.2.2.2.2.1 b v111 w r h) ⟨Nat.le_of_ble_eq_true rfl, Nat.le_of_ble_eq_true rfl⟩ (Nat.le_of_ble_eq_true rfl) dL_law_662 (fun r112 => ?_)
      refine V_aload_n (pc := 665) hk dL_law_665 2 rfl ?_
      refine V_aload_n (pc := 666) hk dL_law_666 0 rfl ?_
      refine V_iload_n (pc := 667) hk dL_law_667 3 rfl ?_
      refine V_iconst (pc := 668) (v := 1) hk dL_law_668 rfl ?_
      refine V_iadd (pc := 669) hk dL_law_669 ?_
      refine V_iaload (pc := 670) hk dL_law_670 (fun v114 => ?_)
      refine n_L_85 (pc := 671) hk (fun b r h => ctX2_jib (fl y) (fK y) hk.2.2.2.2.2.2.2.1 b v114 r112.2 r h) ⟨Nat.le_of_ble_eq_true rfl, Nat.le_of_ble_eq_true rfl⟩ (Nat.le_of_ble_eq_true rfl) dL_law_671 (fun r115 => ?_)
      refine V_icmp_eq (pc := 674) (tgt := 1541) hk dL_law_674 rfl ?_ ?_
      · refine V_iinc (pc := 1541) (v := 6) (lc' := [(3, .int (l3 + 6)), (0, va_rf l0), (1, va_rf l1), (2, va_rf l2)]) hk dL_law_1541 3 rfl rfl (Nat.le_of_ble_eq_true rfl) (by simp [rf_cat, cat_int, cat_long, cat_ref]) ?_
        refine V_goto (pc := 1544) (tgt := 18) hk dL_law_1544 rfl ?_
        refine V_pick (lc' := [(0, va_rf l0), (1, va_rf l1), (2, va_rf l2), (3, .int (l3 + 6))]) [1, 2, 3, 0] rfl ?_
        exact h18 r115.2 l0 l1 l2 (l3 + 6)
      · refine V_iconst (pc := 677) (v := 0) hk dL_law_677 rfl ?_
        exact V_none
    refine V_if (fun hx => ?_) (fun hn17 => ?_)
    · refine V_tblIn (pc := 33) (tgt := 679) (off := 646) hk 17 hx dL_law_33 (by decide) (by decide) (by decide +kernel) rfl ?_
      refine V_aload_n (pc := 679) hk dL_law_679 1 rfl ?_
      refine V_aload_n (pc := 680) hk dL_law_680 0 rfl ?_
      refine V_iload_n (pc := 681) hk dL_law_681 3 rfl ?_
      refine V_iconst (pc := 682) (v := 1) hk dL_law_682 rfl ?_
      refine V_iadd (pc := 683) hk dL_law_683 ?_
      refine V_iaload (pc := 684) hk dL_law_684 (fun v117 => ?_)
      refine V_aload_n (pc := 685) hk dL_law_685 0 rfl ?_
      refine V_iload_n (pc := 686) hk dL_law_686 3 rfl ?_
      refine V_iconst (pc := 687) (v := 2) hk dL_law_687 rfl ?_
      refine V_iadd (pc := 688) hk dL_law_688 ?_
      refine V_iaload (pc := 689) hk dL_law_689 (fun v118 => ?_)
      refine n_L_86 (pc := 690) hk (fun b r h => ctX0_ofOrder (fl y) (fK y) hk.2.2.2.2.2.2.2.1 b v117 v118 w r h) ⟨Nat.le_of_ble_eq_true rfl, Nat.le_of_ble_eq_true rfl⟩ (Nat.le_of_ble_eq_true rfl) dL_law_690 (fun r119 => ?_)
      refine V_aload_n (pc := 693) hk dL_law_693 2 rfl ?_
      refine V_aload_n (pc := 694) hk dL_law_694 0 rfl ?_
      refine V_iload_n (pc := 695) hk dL_law_695 3 rfl ?_
      refine V_iconst (pc := 696) (v := 1) hk dL_law_696 rfl ?_
      refine V_iadd (pc := 697) hk dL_law_697 ?_
      refine V_iaload (pc := 698) hk dL_law_698 (fun v121 => ?_)
      refine V_aload_n (pc := 699) hk dL_law_699 0 rfl ?_
      refine V_iload_n (pc := 700) hk dL_law_700 3 rfl ?_
      refine V_iconst (pc := 701) (v := 2) hk dL_law_701 rfl ?_
      refine V_iadd (pc := 702) hk dL_law_702 ?_
      refine V_iaload (pc := 703) hk dL_law_703 (fun v122 => ?_)
      refine n_L_89 (pc := 704) hk (fun b r h => ctX2_ofOrder (fl y) (fK y) hk.2.2.2.2.2.2.2.1 b v121 v122 r119.2 r h) ⟨Nat.le_of_ble_eq_true rfl, Nat.le_of_ble_eq_true rfl⟩ (Nat.le_of_ble_eq_true rfl) dL_law_704 (fun r123 => ?_)
      refine V_icmp_eq (pc := 707) (tgt := 1541) hk dL_law_707 rfl ?_ ?_
      · refine V_iinc (pc := 1541) (v := 6) (lc' := [(3, .int (l3 + 6)), (0, va_rf l0), (1, va_rf l1), (2, va_rf l2)]) hk dL_law_1541 3 rfl rfl (Nat.le_of_ble_eq_true rfl) (by simp [rf_cat, cat_int, cat_long, cat_ref]) ?_
        refine V_goto (pc := 1544) (tgt := 18) hk dL_law_1544 rfl ?_
        refine V_pick (lc' := [(0, va_rf l0), (1, va_rf l1), (2, va_rf l2), (3, .int (l3 + 6))]) [1, 2, 3, 0] rfl ?_
        exact h18 r123.2 l0 l1 l2 (l3 + 6)
      · refine V_iconst (pc := 710) (v := 0) hk dL_law_710 rfl ?_
        exact V_none
    refine V_if (fun hx => ?_) (fun hn18 => ?_)
    · refine V_tblIn (pc := 33) (tgt := 712) (off := 679) hk 18 hx dL_law_33 (by decide) (by decide) (by decide +kernel) rfl ?_
      refine V_aload_n (pc := 712) hk dL_law_712 1 rfl ?_
      refine V_aload_n (pc := 713) hk dL_law_713 0 rfl ?_
      refine V_iload_n (pc := 714) hk dL_law_714 3 rfl ?_
      refine V_iconst (pc := 715) (v := 1) hk dL_law_715 rfl ?_
      refine V_iadd (pc := 716) hk dL_law_716 ?_
      refine V_iaload (pc := 717) hk dL_law_717 (fun v125 => ?_)
      refine V_aload_n (pc := 718) hk dL_law_718 0 rfl ?_
      refine V_iload_n (pc := 719) hk dL_law_719 3 rfl ?_
      refine V_iconst (pc := 720) (v := 2) hk dL_law_720 rfl ?_
      refine V_iadd (pc := 721) hk dL_law_721 ?_
      refine V_iaload (pc := 722) hk dL_law_722 (fun v126 => ?_)
      refine n_L_90 (pc := 723) hk (fun b r h => ctX0_ago (fl y) (fK y) hk.2.2.2.2.2.2.2.1 b v125 v126 w r h) ⟨Nat.le_of_ble_eq_true rfl, Nat.le_of_ble_eq_true rfl⟩ (Nat.le_of_ble_eq_true rfl) dL_law_723 (fun r127 => ?_)
      refine V_aload_n (pc := 726) hk dL_law_726 2 rfl ?_
      refine V_aload_n (pc := 727) hk dL_law_727 0 rfl ?_
      refine V_iload_n (pc := 728) hk dL_law_728 3 rfl ?_
      refine V_iconst (pc := 729) (v := 1) hk dL_law_729 rfl ?_
      refine V_iadd (pc := 730) hk dL_law_730 ?_
      refine V_iaload (pc := 731) hk dL_law_731 (fun v129 => ?_)
      refine V_aload_n (pc := 732) hk dL_law_732 0 rfl ?_
      refine V_iload_n (pc := 733) hk dL_law_733 3 rfl ?_
      refine V_iconst (pc := 734) (v := 2) hk dL_law_734 rfl ?_
      refine V_iadd (pc := 735) hk dL_law_735 ?_
      refine V_iaload (pc := 736) hk dL_law_736 (fun v130 => ?_)
      refine n_L_93 (pc := 737) hk (fun b r h => ctX2_ago (fl y) (fK y) hk.2.2.2.2.2.2.2.1 b v129 v130 r127.2 r h) ⟨Nat.le_of_ble_eq_true rfl, Nat.le_of_ble_eq_true rfl⟩ (Nat.le_of_ble_eq_true rfl) dL_law_737 (fun r131 => ?_)
      refine V_icmp_eq (pc := 740) (tgt := 1541) hk dL_law_740 rfl ?_ ?_
      · refine V_iinc (pc := 1541) (v := 6) (lc' := [(3, .int (l3 + 6)), (0, va_rf l0), (1, va_rf l1), (2, va_rf l2)]) hk dL_law_1541 3 rfl rfl (Nat.le_of_ble_eq_true rfl) (by simp [rf_cat, cat_int, cat_long, cat_ref]) ?_
        refine V_goto (pc := 1544) (tgt := 18) hk dL_law_1544 rfl ?_
        refine V_pick (lc' := [(0, va_rf l0), (1, va_rf l1), (2, va_rf l2), (3, .int (l3 + 6))]) [1, 2, 3, 0] rfl ?_
        exact h18 r131.2 l0 l1 l2 (l3 + 6)
      · refine V_iconst (pc := 743) (v := 0) hk dL_law_743 rfl ?_
        exact V_none
    refine V_if (fun hx => ?_) (fun hn19 => ?_)
    · refine V_tblIn (pc := 33) (tgt := 745) (off := 712) hk 19 hx dL_law_33 (by decide) (by decide) (by decide +kernel) rfl ?_
      refine V_aload_n (pc := 745) hk dL_law_745 1 rfl ?_
      refine V_aload_n (pc := 746) hk dL_law_746 0 rfl ?_
      refine V_iload_n (pc := 747) hk dL_law_747 3 rfl ?_
      refine V_iconst (pc := 748) (v := 1) hk dL_law_748 rfl ?_
      refine V_iadd (pc := 749) hk dL_law_749 ?_
      refine V_iaload (pc := 750) hk dL_law_750 (fun v133 => ?_)
      refine V_aload_n (pc := 751) hk dL_law_751 0 rfl ?_
      refine V_iload_n (pc := 752) hk dL_law_752 3 rfl ?_
      refine V_iconst (pc := 753) (v := 2) hk dL_law_753 rfl ?_
      refine V_iadd (pc := 754) hk dL_law_754 ?_
      refine V_iaload (pc := 755) hk dL_law_755 (fun v134 => ?_)
      refine V_if_eq (pc := 756) (tgt := 763) hk dL_law_756 rfl ?_ ?_
      · refine V_iconst (pc := 763) (v := 0) hk dL_law_763 rfl ?_
        exact eL_law_p764 hk hR hst h18 w l0 l1 l2 l3 0 v133 l1
      · refine V_iconst (pc := 759) (v := 1) hk dL_law_759 rfl ?_
        refine V_goto (pc := 760) (tgt := 764) hk dL_law_760 rfl ?_
        exact eL_law_p764 hk hR hst h18 w l0 l1 l2 l3 1 v133 l1
    refine V_if (fun hx => ?_) (fun hn20 => ?_)
    · refine V_tblIn (pc := 33) (tgt := 804) (off := 771) hk 20 hx dL_law_33 (by decide) (by decide) (by decide +kernel) rfl ?_
      refine V_aload_n (pc := 804) hk dL_law_804 1 rfl ?_
      refine V_aload_n (pc := 805) hk dL_law_805 0 rfl ?_
      refine V_iload_n (pc := 806) hk dL_law_806 3 rfl ?_
      refine V_iconst (pc := 807) (v := 1) hk dL_law_807 rfl ?_
      refine V_iadd (pc := 808) hk dL_law_808 ?_
      refine V_iaload (pc := 809) hk dL_law_809 (fun v135 => ?_)
      refine n_L_99 (pc := 810) hk (fun b r h => ctX0_soonest (fl y) (fK y) hk.2.2.2.2.2.2.2.1 b v135 w r h) ⟨Nat.le_of_ble_eq_true rfl, Nat.le_of_ble_eq_true rfl⟩ (Nat.le_of_ble_eq_true rfl) dL_law_810 (fun r136 => ?_)
      refine V_aload_n (pc := 813) hk dL_law_813 2 rfl ?_
      refine V_aload_n (pc := 814) hk dL_law_814 0 rfl ?_
      refine V_iload_n (pc := 815) hk dL_law_815 3 rfl ?_
      refine V_iconst (pc := 816) (v := 1) hk dL_law_816 rfl ?_
      refine V_iadd (pc := 817) hk dL_law_817 ?_
      refine V_iaload (pc := 818) hk dL_law_818 (fun v138 => ?_)
      refine n_L_102 (pc := 819) hk (fun b r h => ctX2_soonest (fl y) (fK y) hk.2.2.2.2.2.2.2.1 b v138 r136.2 r h) ⟨Nat.le_of_ble_eq_true rfl, Nat.le_of_ble_eq_true rfl⟩ (Nat.le_of_ble_eq_true rfl) dL_law_819 (fun r139 => ?_)
      refine V_icmp_eq (pc := 822) (tgt := 1541) hk dL_law_822 rfl ?_ ?_
      · refine V_iinc (pc := 1541) (v := 6) (lc' := [(3, .int (l3 + 6)), (0, va_rf l0), (1, va_rf l1), (2, va_rf l2)]) hk dL_law_1541 3 rfl rfl (Nat.le_of_ble_eq_true rfl) (by simp [rf_cat, cat_int, cat_long, cat_ref]) ?_
        refine V_goto (pc := 1544) (tgt := 18) hk dL_law_1544 rfl ?_
        refine V_pick (lc' := [(0, va_rf l0), (1, va_rf l1), (2, va_rf l2), (3, .int (l3 + 6))]) [1, 2, 3, 0] rfl ?_
        exact h18 r139.2 l0 l1 l2 (l3 + 6)
      · refine V_iconst (pc := 825) (v := 0) hk dL_law_825 rfl ?_
        exact V_none
    refine V_if (fun hx => ?_) (fun hn21 => ?_)
    · refine V_tblIn (pc := 33) (tgt := 827) (off := 794) hk 21 hx dL_law_33 (by decide) (by decide) (by decide +kernel) rfl ?_
      refine V_aload_n (pc := 827) hk dL_law_827 1 rfl ?_
      refine V_aload_n (pc := 828) hk dL_law_828 0 rfl ?_
      refine V_iload_n (pc := 829) hk dL_law_829 3 rfl ?_
      refine V_iconst (pc := 830) (v := 1) hk dL_law_830 rfl ?_
      refine V_iadd (pc := 831) hk dL_law_831 ?_
      refine V_iaload (pc := 832) hk dL_law_832 (fun v141 => ?_)
      refine n_L_103 (pc := 833) hk (fun b r h => ctX0_fewest (fl y) (fK y) hk.2.2.2.2.2.2.2.1 b v141 w r h) ⟨Nat.le_of_ble_eq_true rfl, Nat.le_of_ble_eq_true rfl⟩ (Nat.le_of_ble_eq_true rfl) dL_law_833 (fun r142 => ?_)
      refine V_aload_n (pc := 836) hk dL_law_836 2 rfl ?_
      refine V_aload_n (pc := 837) hk dL_law_837 0 rfl ?_
      refine V_iload_n (pc := 838) hk dL_law_838 3 rfl ?_
      refine V_iconst (pc := 839) (v := 1) hk dL_law_839 rfl ?_
      refine V_iadd (pc := 840) hk dL_law_840 ?_
      refine V_iaload (pc := 841) hk dL_law_841 (fun v144 => ?_)
      refine n_L_106 (pc := 842) hk (fun b r h => ctX2_fewest (fl y) (fK y) hk.2.2.2.2.2.2.2.1 b v144 r142.2 r h) ⟨Nat.le_of_ble_eq_true rfl, Nat.le_of_ble_eq_true rfl⟩ (Nat.le_of_ble_eq_true rfl) dL_law_842 (fun r145 => ?_)
      refine V_icmp_eq (pc := 845) (tgt := 1541) hk dL_law_845 rfl ?_ ?_
      · refine V_iinc (pc := 1541) (v := 6) (lc' := [(3, .int (l3 + 6)), (0, va_rf l0), (1, va_rf l1), (2, va_rf l2)]) hk dL_law_1541 3 rfl rfl (Nat.le_of_ble_eq_true rfl) (by simp [rf_cat, cat_int, cat_long, cat_ref]) ?_
        refine V_goto (pc := 1544) (tgt := 18) hk dL_law_1544 rfl ?_
        refine V_pick (lc' := [(0, va_rf l0), (1, va_rf l1), (2, va_rf l2), (3, .int (l3 + 6))]) [1, 2, 3, 0] rfl ?_
        exact h18 r145.2 l0 l1 l2 (l3 + 6)
      · refine V_iconst (pc := 848) (v := 0) hk dL_law_848 rfl ?_
        exact V_none
    refine V_if (fun hx => ?_) (fun hn22 => ?_)
    · refine V_tblIn (pc := 33) (tgt := 850) (off := 817) hk 22 hx dL_law_33 (by decide) (by decide) (by decide +kernel) rfl ?_
      refine V_aload_n (pc := 850) hk dL_law_850 1 rfl ?_
      refine V_aload_n (pc := 851) hk dL_law_851 0 rfl ?_
      refine V_iload_n (pc := 852) hk dL_law_852 3 rfl ?_
      refine V_iconst (pc := 853) (v := 1) hk dL_law_853 rfl ?_
      refine V_iadd (pc := 854) hk dL_law_854 ?_
      refine V_iaload (pc := 855) hk dL_law_855 (fun v147 => ?_)
      refine n_L_107 (pc := 856) hk (fun b r h => ctX0_toAndFro (fl y) (fK y) hk.2.2.2.2.2.2.2.1 b v147 w r h) ⟨Nat.le_of_ble_eq_true rfl, Nat.le_of_ble_eq_true rfl⟩ (Nat.le_of_ble_eq_true rfl) dL_law_856 (fun r148 => ?_)
      refine V_aload_n (pc := 859) hk dL_law_859 2 rfl ?_
      refine V_aload_n (pc := 860) hk dL_law_860 0 rfl ?_
      refine V_iload_n (pc := 861) hk dL_law_861 3 rfl ?_
      refine V_iconst (pc := 862) (v := 1) hk dL_law_862 rfl ?_
      refine V_iadd (pc := 863) hk dL_law_863 ?_
      refine V_iaload (pc := 864) hk dL_law_864 (fun v150 => ?_)
      refine n_L_110 (pc := 865) hk (fun b r h => ctX2_toAndFro (fl y) (fK y) hk.2.2.2.2.2.2.2.1 b v150 r148.2 r h) ⟨Nat.le_of_ble_eq_true rfl, Nat.le_of_ble_eq_true rfl⟩ (Nat.le_of_ble_eq_true rfl) dL_law_865 (fun r151 => ?_)
      refine V_icmp_eq (pc := 868) (tgt := 1541) hk dL_law_868 rfl ?_ ?_
      · refine V_iinc (pc := 1541) (v := 6) (lc' := [(3, .int (l3 + 6)), (0, va_rf l0), (1, va_rf l1), (2, va_rf l2)]) hk dL_law_1541 3 rfl rfl (Nat.le_of_ble_eq_true rfl) (by simp [rf_cat, cat_int, cat_long, cat_ref]) ?_
        refine V_goto (pc := 1544) (tgt := 18) hk dL_law_1544 rfl ?_
        refine V_pick (lc' := [(0, va_rf l0), (1, va_rf l1), (2, va_rf l2), (3, .int (l3 + 6))]) [1, 2, 3, 0] rfl ?_
        exact h18 r151.2 l0 l1 l2 (l3 + 6)
      · refine V_iconst (pc := 871) (v := 0) hk dL_law_871 rfl ?_
        exact V_none
    refine V_if (fun hx => ?_) (fun hn23 => ?_)
    · refine V_tblIn (pc := 33) (tgt := 873) (off := 840) hk 23 hx dL_law_33 (by decide) (by decide) (by decide +kernel) rfl ?_
      refine V_aload_n (pc := 873) hk dL_law_873 1 rfl ?_
      refine V_aload_n (pc := 874) hk dL_law_874 0 rfl ?_
      refine V_iload_n (pc := 875) hk dL_law_875 3 rfl ?_
      refine V_iconst (pc := 876) (v := 1) hk dL_law_876 rfl ?_
      refine V_iadd (pc := 877) hk dL_law_877 ?_
      refine V_iaload (pc := 878) hk dL_law_878 (fun v153 => ?_)
      refine V_aload_n (pc := 879) hk dL_law_879 0 rfl ?_
      refine V_iload_n (pc := 880) hk dL_law_880 3 rfl ?_
      refine V_iconst (pc := 881) (v := 2) hk dL_law_881 rfl ?_
      refine V_iadd (pc := 882) hk dL_law_882 ?_
      refine V_iaload (pc := 883) hk dL_law_883 (fun v154 => ?_)
      refine V_aload_n (pc := 884) hk dL_law_884 0 rfl ?_
      refine V_iload_n (pc := 885) hk dL_law_885 3 rfl ?_
      refine V_iconst (pc := 886) (v := 3) hk dL_law_886 rfl ?_
      refine V_iadd (pc := 887) hk dL_law_887 ?_
      refine V_iaload (pc := 888) hk dL_law_888 (fun v155 => ?_)
      refine V_if_eq (pc := 889) (tgt := 896) hk dL_law_889 rfl ?_ ?_
      · refine V_iconst (pc := 896) (v := 0) hk dL_law_896 rfl ?_
        exact eL_law_p897 hk hR hst h18 w l0 l1 l2 l3 0 v154 v153 l1
      · refine V_iconst (pc := 892) (v := 1) hk dL_law_892 rfl ?_
        refine V_goto (pc := 893) (tgt := 897) hk dL_law_893 rfl ?_
        exact eL_law_p897 hk hR hst h18 w l0 l1 l2 l3 1 v154 v153 l1
    refine V_if (fun hx => ?_) (fun hn24 => ?_)
    · refine V_tblIn (pc := 33) (tgt := 933) (off := 900) hk 24 hx dL_law_33 (by decide) (by decide) (by decide +kernel) rfl ?_
      refine V_aload_n (pc := 933) hk dL_law_933 1 rfl ?_
      refine V_aload_n (pc := 934) hk dL_law_934 0 rfl ?_
      refine V_iload_n (pc := 935) hk dL_law_935 3 rfl ?_
      refine V_iconst (pc := 936) (v := 1) hk dL_law_936 rfl ?_
      refine V_iadd (pc := 937) hk dL_law_937 ?_
      refine V_iaload (pc := 938) hk dL_law_938 (fun v156 => ?_)
      refine V_aload_n (pc := 939) hk dL_law_939 0 rfl ?_
      refine V_iload_n (pc := 940) hk dL_law_940 3 rfl ?_
      refine V_iconst (pc := 941) (v := 2) hk dL_law_941 rfl ?_
      refine V_iadd (pc := 942) hk dL_law_942 ?_
      refine V_iaload (pc := 943) hk dL_law_943 (fun v157 => ?_)
      refine n_L_116 (pc := 944) hk (fun b r h => ctX0_dies (fl y) (fK y) hk.2.2.2.2.2.2.2.1 b v156 v157 w r h) ⟨Nat.le_of_ble_eq_true rfl, Nat.le_of_ble_eq_true rfl⟩ (Nat.le_of_ble_eq_true rfl) dL_law_944 (fun r158 => ?_)
      refine V_aload_n (pc := 947) hk dL_law_947 2 rfl ?_
      refine V_aload_n (pc := 948) hk dL_law_948 0 rfl ?_
      refine V_iload_n (pc := 949) hk dL_law_949 3 rfl ?_
      refine V_iconst (pc := 950) (v := 1) hk dL_law_950 rfl ?_
      refine V_iadd (pc := 951) hk dL_law_951 ?_
      refine V_iaload (pc := 952) hk dL_law_952 (fun v160 => ?_)
      refine V_aload_n (pc := 953) hk dL_law_953 0 rfl ?_
      refine V_iload_n (pc := 954) hk dL_law_954 3 rfl ?_
      refine V_iconst (pc := 955) (v := 2) hk dL_law_955 rfl ?_
      refine V_iadd (pc := 956) hk dL_law_956 ?_
      refine V_iaload (pc := 957) hk dL_law_957 (fun v161 => ?_)
      refine n_L_119 (pc := 958) hk (fun b r h => ctX2_dies (fl y) (fK y) hk.2.2.2.2.2.2.2.1 b v160 v161 r158.2 r h) ⟨Nat.le_of_ble_eq_true rfl, Nat.le_of_ble_eq_true rfl⟩ (Nat.le_of_ble_eq_true rfl) dL_law_958 (fun r162 => ?_)
      refine V_icmp_eq (pc := 961) (tgt := 1541) hk dL_law_961 rfl ?_ ?_
      · refine V_iinc (pc := 1541) (v := 6) (lc' := [(3, .int (l3 + 6)), (0, va_rf l0), (1, va_rf l1), (2, va_rf l2)]) hk dL_law_1541 3 rfl rfl (Nat.le_of_ble_eq_true rfl) (by simp [rf_cat, cat_int, cat_long, cat_ref]) ?_
        refine V_goto (pc := 1544) (tgt := 18) hk dL_law_1544 rfl ?_
        refine V_pick (lc' := [(0, va_rf l0), (1, va_rf l1), (2, va_rf l2), (3, .int (l3 + 6))]) [1, 2, 3, 0] rfl ?_
        exact h18 r162.2 l0 l1 l2 (l3 + 6)
      · refine V_iconst (pc := 964) (v := 0) hk dL_law_964 rfl ?_
        exact V_none
    refine V_if (fun hx => ?_) (fun hn25 => ?_)
    · refine V_tblIn (pc := 33) (tgt := 966) (off := 933) hk 25 hx dL_law_33 (by decide) (by decide) (by decide +kernel) rfl ?_
      refine V_aload_n (pc := 966) hk dL_law_966 1 rfl ?_
      refine V_aload_n (pc := 967) hk dL_law_967 0 rfl ?_
      refine V_iload_n (pc := 968) hk dL_law_968 3 rfl ?_
      refine V_iconst (pc := 969) (v := 1) hk dL_law_969 rfl ?_
      refine V_iadd (pc := 970) hk dL_law_970 ?_
      refine V_iaload (pc := 971) hk dL_law_971 (fun v164 => ?_)
      refine n_L_120 (pc := 972) hk (fun b r h => ctX0_calmest (fl y) (fK y) hk.2.2.2.2.2.2.2.1 b v164 w r h) ⟨Nat.le_of_ble_eq_true rfl, Nat.le_of_ble_eq_true rfl⟩ (Nat.le_of_ble_eq_true rfl) dL_law_972 (fun r165 => ?_)
      refine V_aload_n (pc := 975) hk dL_law_975 2 rfl ?_
      refine V_aload_n (pc := 976) hk dL_law_976 0 rfl ?_
      refine V_iload_n (pc := 977) hk dL_law_977 3 rfl ?_
      refine V_iconst (pc := 978) (v := 1) hk dL_law_978 rfl ?_
      refine V_iadd (pc := 979) hk dL_law_979 ?_
      refine V_iaload (pc := 980) hk dL_law_980 (fun v167 => ?_)
      refine n_L_123 (pc := 981) hk (fun b r h => ctX2_calmest (fl y) (fK y) hk.2.2.2.2.2.2.2.1 b v167 r165.2 r h) ⟨Nat.le_of_ble_eq_true rfl, Nat.le_of_ble_eq_true rfl⟩ (Nat.le_of_ble_eq_true rfl) dL_law_981 (fun r168 => ?_)
      refine V_icmp_eq (pc := 984) (tgt := 1541) hk dL_law_984 rfl ?_ ?_
      · refine V_iinc (pc := 1541) (v := 6) (lc' := [(3, .int (l3 + 6)), (0, va_rf l0), (1, va_rf l1), (2, va_rf l2)]) hk dL_law_1541 3 rfl rfl (Nat.le_of_ble_eq_true rfl) (by simp [rf_cat, cat_int, cat_long, cat_ref]) ?_
        refine V_goto (pc := 1544) (tgt := 18) hk dL_law_1544 rfl ?_
        refine V_pick (lc' := [(0, va_rf l0), (1, va_rf l1), (2, va_rf l2), (3, .int (l3 + 6))]) [1, 2, 3, 0] rfl ?_
        exact h18 r168.2 l0 l1 l2 (l3 + 6)
      · refine V_iconst (pc := 987) (v := 0) hk dL_law_987 rfl ?_
        exact V_none
    refine V_if (fun hx => ?_) (fun hn26 => ?_)
    · refine V_tblIn (pc := 33) (tgt := 989) (off := 956) hk 26 hx dL_law_33 (by decide) (by decide) (by decide +kernel) rfl ?_
      refine V_aload_n (pc := 989) hk dL_law_989 1 rfl ?_
      refine n_L_124 (pc := 990) hk (fun b r h => ctX0_whoseHand (fl y) (fK y) hk.2.2.2.2.2.2.2.1 b w r h) ⟨Nat.le_of_ble_eq_true rfl, Nat.le_of_ble_eq_true rfl⟩ (Nat.le_of_ble_eq_true rfl) dL_law_990 (fun r170 => ?_)
      refine V_aload_n (pc := 993) hk dL_law_993 2 rfl ?_
      refine n_L_127 (pc := 994) hk (fun b r h => ctX2_whoseHand (fl y) (fK y) hk.2.2.2.2.2.2.2.1 b r170.2 r h) ⟨Nat.le_of_ble_eq_true rfl, Nat.le_of_ble_eq_true rfl⟩ (Nat.le_of_ble_eq_true rfl) dL_law_994 (fun r172 => ?_)
      refine V_icmp_eq (pc := 997) (tgt := 1541) hk dL_law_997 rfl ?_ ?_
      · refine V_iinc (pc := 1541) (v := 6) (lc' := [(3, .int (l3 + 6)), (0, va_rf l0), (1, va_rf l1), (2, va_rf l2)]) hk dL_law_1541 3 rfl rfl (Nat.le_of_ble_eq_true rfl) (by simp [rf_cat, cat_int, cat_long, cat_ref]) ?_
        refine V_goto (pc := 1544) (tgt := 18) hk dL_law_1544 rfl ?_
        refine V_pick (lc' := [(0, va_rf l0), (1, va_rf l1), (2, va_rf l2), (3, .int (l3 + 6))]) [1, 2, 3, 0] rfl ?_
        exact h18 r172.2 l0 l1 l2 (l3 + 6)
      · refine V_iconst (pc := 1000) (v := 0) hk dL_law_1000 rfl ?_
        exact V_none
    refine V_if (fun hx => ?_) (fun hn27 => ?_)
    · refine V_tblIn (pc := 33) (tgt := 1002) (off := 969) hk 27 hx dL_law_33 (by decide) (by decide) (by decide +kernel) rfl ?_
      refine V_aload_n (pc := 1002) hk dL_law_1002 1 rfl ?_
      refine V_aload_n (pc := 1003) hk dL_law_1003 0 rfl ?_
      refine V_iload_n (pc := 1004) hk dL_law_1004 3 rfl ?_
      refine V_iconst (pc := 1005) (v := 1) hk dL_law_1005 rfl ?_
      refine V_iadd (pc := 1006) hk dL_law_1006 ?_
      refine V_iaload (pc := 1007) hk dL_law_1007 (fun v174 => ?_)
      refine V_aload_n (pc := 1008) hk dL_law_1008 0 rfl ?_
      refine V_iload_n (pc := 1009) hk dL_law_1009 3 rfl ?_
      refine V_iconst (pc := 1010) (v := 2) hk dL_law_1010 rfl ?_
      refine V_iadd (pc := 1011) hk dL_law_1011 ?_
      refine V_iaload (pc := 1012) hk dL_law_1012 (fun v175 => ?_)
      refine n_L_128 (pc := 1013) hk (fun b r h => ctX0_dayEnds (fl y) (fK y) hk.2.2.2.2.2.2.2.1 b v174 v175 w r h) ⟨Nat.le_of_ble_eq_true rfl, Nat.le_of_ble_eq_true rfl⟩ (Nat.le_of_ble_eq_true rfl) dL_law_1013 (fun r176 => ?_)
      refine V_aload_n (pc := 1016) hk dL_law_1016 2 rfl ?_
      refine V_aload_n (pc := 1017) hk dL_law_1017 0 rfl ?_
      refine V_iload_n (pc := 1018) hk dL_law_1018 3 rfl ?_
      refine V_iconst (pc := 1019) (v := 1) hk dL_law_1019 rfl ?_
      refine V_iadd (pc := 1020) hk dL_law_1020 ?_
      refine V_iaload (pc := 1021) hk dL_law_1021 (fun v178 => ?_)
      refine V_aload_n (pc := 1022) hk dL_law_1022 0 rfl ?_
      refine V_iload_n (pc := 1023) hk dL_law_1023 3 rfl ?_
      refine V_iconst (pc := 1024) (v := 2) hk dL_law_1024 rfl ?_
      refine V_iadd (pc := 1025) hk dL_law_1025 ?_
      refine V_iaload (pc := 1026) hk dL_law_1026 (fun v179 => ?_)
      refine n_L_131 (pc := 1027) hk (fun b r h => ctX2_dayEnds (fl y) (fK y) hk.2.2.2.2.2.2.2.1 b v178 v179 r176.2 r h) ⟨Nat.le_of_ble_eq_true rfl, Nat.le_of_ble_eq_true rfl⟩ (Nat.le_of_ble_eq_true rfl) dL_law_1027 (fun r180 => ?_)
      refine V_icmp_eq (pc := 1030) (tgt := 1541) hk dL_law_1030 rfl ?_ ?_
      · refine V_iinc (pc := 1541) (v := 6) (lc' := [(3, .int (l3 + 6)), (0, va_rf l0), (1, va_rf l1), (2, va_rf l2)]) hk dL_law_1541 3 rfl rfl (Nat.le_of_ble_eq_true rfl) (by simp [rf_cat, cat_int, cat_long, cat_ref]) ?_
        refine V_goto (pc := 1544) (tgt := 18) hk dL_law_1544 rfl ?_
        refine V_pick (lc' := [(0, va_rf l0), (1, va_rf l1), (2, va_rf l2), (3, .int (l3 + 6))]) [1, 2, 3, 0] rfl ?_
        exact h18 r180.2 l0 l1 l2 (l3 + 6)
      · refine V_iconst (pc := 1033) (v := 0) hk dL_law_1033 rfl ?_
        exact V_none
    refine V_if (fun hx => ?_) (fun hn28 => ?_)
    · refine V_tblIn (pc := 33) (tgt := 1035) (off := 1002) hk 28 hx dL_law_33 (by decide) (by decide) (by decide +kernel) rfl ?_
      refine V_aload_n (pc := 1035) hk dL_law_1035 1 rfl ?_
      refine V_aload_n (pc := 1036) hk dL_law_1036 0 rfl ?_
      refine V_iload_n (pc := 1037) hk dL_law_1037 3 rfl ?_
      refine V_iconst (pc := 1038) (v := 1) hk dL_law_1038 rfl ?_
      refine V_iadd (pc := 1039) hk dL_law_1039 ?_
      refine V_iaload (pc := 1040) hk dL_law_1040 (fun v182 => ?_)
      refine V_aload_n (pc := 1041) hk dL_law_1041 0 rfl ?_
      refine V_iload_n (pc := 1042) hk dL_law_1042 3 rfl ?_
      refine V_iconst (pc := 1043) (v := 2) hk dL_law_1043 rfl ?_
      refine V_iadd (pc := 1044) hk dL_law_1044 ?_
      refine V_iaload (pc := 1045) hk dL_law_1045 (fun v183 => ?_)
      refine V_aload_n (pc := 1046) hk dL_law_1046 0 rfl ?_
      refine V_iload_n (pc := 1047) hk dL_law_1047 3 rfl ?_
      refine V_iconst (pc := 1048) (v := 3) hk dL_law_1048 rfl ?_
      refine V_iadd (pc := 1049) hk dL_law_1049 ?_
      refine V_iaload (pc := 1050) hk dL_law_1050 (fun v184 => ?_)
      refine n_L_132 (pc := 1051) hk (fun b r h => ctX0_saves (fl y) (fK y) hk.2.2.2.2.2.2.2.1 b v182 v183 v184 w r h) ⟨Nat.le_of_ble_eq_true rfl, Nat.le_of_ble_eq_true rfl⟩ (Nat.le_of_ble_eq_true rfl) dL_law_1051 (fun r185 => ?_)
      refine V_aload_n (pc := 1054) hk dL_law_1054 2 rfl ?_
      refine V_aload_n (pc := 1055) hk dL_law_1055 0 rfl ?_
      refine V_iload_n (pc := 1056) hk dL_law_1056 3 rfl ?_
      refine V_iconst (pc := 1057) (v := 1) hk dL_law_1057 rfl ?_
      refine V_iadd (pc := 1058) hk dL_law_1058 ?_
      refine V_iaload (pc := 1059) hk dL_law_1059 (fun v187 => ?_)
      refine V_aload_n (pc := 1060) hk dL_law_1060 0 rfl ?_
      refine V_iload_n (pc := 1061) hk dL_law_1061 3 rfl ?_
      refine V_iconst (pc := 1062) (v := 2) hk dL_law_1062 rfl ?_
      refine V_iadd (pc := 1063) hk dL_law_1063 ?_
      refine V_iaload (pc := 1064) hk dL_law_1064 (fun v188 => ?_)
      refine V_aload_n (pc := 1065) hk dL_law_1065 0 rfl ?_
      refine V_iload_n (pc := 1066) hk dL_law_1066 3 rfl ?_
      refine V_iconst (pc := 1067) (v := 3) hk dL_law_1067 rfl ?_
      refine V_iadd (pc := 1068) hk dL_law_1068 ?_
      refine V_iaload (pc := 1069) hk dL_law_1069 (fun v189 => ?_)
      refine n_L_136 (pc := 1070) hk (fun b r h => ctX2_saves (fl y) (fK y) hk.2.2.2.2.2.2.2.1 b v187 v188 v189 r185.2 r h) ⟨Nat.le_of_ble_eq_true rfl, Nat.le_of_ble_eq_true rfl⟩ (Nat.le_of_ble_eq_true rfl) dL_law_1070 (fun r190 => ?_)
      refine V_icmp_eq (pc := 1073) (tgt := 1541) hk dL_law_1073 rfl ?_ ?_
      · refine V_iinc (pc := 1541) (v := 6) (lc' := [(3, .int (l3 + 6)), (0, va_rf l0), (1, va_rf l1), (2, va_rf l2)]) hk dL_law_1541 3 rfl rfl (Nat.le_of_ble_eq_true rfl) (by simp [rf_cat, cat_int, cat_long, cat_ref]) ?_
        refine V_goto (pc := 1544) (tgt := 18) hk dL_law_1544 rfl ?_
        refine V_pick (lc' := [(0, va_rf l0), (1, va_rf l1), (2, va_rf l2), (3, .int (l3 + 6))]) [1, 2, 3, 0] rfl ?_
        exact h18 r190.2 l0 l1 l2 (l3 + 6)
      · refine V_iconst (pc := 1076) (v := 0) hk dL_law_1076 rfl ?_
        exact V_none
    refine V_if (fun hx => ?_) (fun hn29 => ?_)
    · refine V_tblIn (pc := 33) (tgt := 1078) (off := 1045) hk 29 hx dL_law_33 (by decide) (by decide) (by decide +kernel) rfl ?_
      refine V_aload_n (pc := 1078) hk dL_law_1078 1 rfl ?_
      refine n_L_137 (pc := 1079) hk (fun b r h => ctX0_whenToGo (fl y) (fK y) hk.2.2.2.2.2.2.2.1 b w r h) ⟨Nat.le_of_ble_eq_true rfl, Nat.le_of_ble_eq_true rfl⟩ (Nat.le_of_ble_eq_true rfl) dL_law_1079 (fun r192 => ?_)
      refine V_aload_n (pc := 1082) hk dL_law_1082 2 rfl ?_
      refine n_L_140 (pc := 1083) hk (fun b r h => ctX2_whenToGo (fl y) (fK y) hk.2.2.2.2.2.2.2.1 b r192.2 r h) ⟨Nat.le_of_ble_eq_true rfl, Nat.le_of_ble_eq_true rfl⟩ (Nat.le_of_ble_eq_true rfl) dL_law_1083 (fun r194 => ?_)
      refine V_icmp_eq (pc := 1086) (tgt := 1541) hk dL_law_1086 rfl ?_ ?_
      · refine V_iinc (pc := 1541) (v := 6) (lc' := [(3, .int (l3 + 6)), (0, va_rf l0), (1, va_rf l1), (2, va_rf l2)]) hk dL_law_1541 3 rfl rfl (Nat.le_of_ble_eq_true rfl) (by simp [rf_cat, cat_int, cat_long, cat_ref]) ?_
        refine V_goto (pc := 1544) (tgt := 18) hk dL_law_1544 rfl ?_
        refine V_pick (lc' := [(0, va_rf l0), (1, va_rf l1), (2, va_rf l2), (3, .int (l3 + 6))]) [1, 2, 3, 0] rfl ?_
        exact h18 r194.2 l0 l1 l2 (l3 + 6)
      · refine V_iconst (pc := 1089) (v := 0) hk dL_law_1089 rfl ?_
        exact V_none
    refine V_if (fun hx => ?_) (fun hn30 => ?_)
    · refine V_tblIn (pc := 33) (tgt := 1091) (off := 1058) hk 30 hx dL_law_33 (by decide) (by decide) (by decide +kernel) rfl ?_
      refine V_aload_n (pc := 1091) hk dL_law_1091 1 rfl ?_
      refine n_L_141 (pc := 1092) hk (fun b r h => ctX0_whichRope (fl y) (fK y) hk.2.2.2.2.2.2.2.1 b w r h) ⟨Nat.le_of_ble_eq_true rfl, Nat.le_of_ble_eq_true rfl⟩ (Nat.le_of_ble_eq_true rfl) dL_law_1092 (fun r196 => ?_)
      refine V_aload_n (pc := 1095) hk dL_law_1095 2 rfl ?_
      refine n_L_144 (pc := 1096) hk (fun b r h => ctX2_whichRope (fl y) (fK y) hk.2.2.2.2.2.2.2.1 b r196.2 r h) ⟨Nat.le_of_ble_eq_true rfl, Nat.le_of_ble_eq_true rfl⟩ (Nat.le_of_ble_eq_true rfl) dL_law_1096 (fun r198 => ?_)
      refine V_icmp_eq (pc := 1099) (tgt := 1541) hk dL_law_1099 rfl ?_ ?_
      · refine V_iinc (pc := 1541) (v := 6) (lc' := [(3, .int (l3 + 6)), (0, va_rf l0), (1, va_rf l1), (2, va_rf l2)]) hk dL_law_1541 3 rfl rfl (Nat.le_of_ble_eq_true rfl) (by simp [rf_cat, cat_int, cat_long, cat_ref]) ?_
        refine V_goto (pc := 1544) (tgt := 18) hk dL_law_1544 rfl ?_
        refine V_pick (lc' := [(0, va_rf l0), (1, va_rf l1), (2, va_rf l2), (3, .int (l3 + 6))]) [1, 2, 3, 0] rfl ?_
        exact h18 r198.2 l0 l1 l2 (l3 + 6)
      · refine V_iconst (pc := 1102) (v := 0) hk dL_law_1102 rfl ?_
        exact V_none
    refine V_if (fun hx => ?_) (fun hn31 => ?_)
    · refine V_tblIn (pc := 33) (tgt := 1104) (off := 1071) hk 31 hx dL_law_33 (by decide) (by decide) (by decide +kernel) rfl ?_
      refine V_aload_n (pc := 1104) hk dL_law_1104 1 rfl ?_
      refine V_aload_n (pc := 1105) hk dL_law_1105 0 rfl ?_
      refine V_iload_n (pc := 1106) hk dL_law_1106 3 rfl ?_
      refine V_iconst (pc := 1107) (v := 1) hk dL_law_1107 rfl ?_
      refine V_iadd (pc := 1108) hk dL_law_1108 ?_
      refine V_iaload (pc := 1109) hk dL_law_1109 (fun v200 => ?_)
      refine V_aload_n (pc := 1110) hk dL_law_1110 0 rfl ?_
      refine V_iload_n (pc := 1111) hk dL_law_1111 3 rfl ?_
      refine V_iconst (pc := 1112) (v := 2) hk dL_law_1112 rfl ?_
      refine V_iadd (pc := 1113) hk dL_law_1113 ?_
      refine V_iaload (pc := 1114) hk dL_law_1114 (fun v201 => ?_)
      refine V_aload_n (pc := 1115) hk dL_law_1115 0 rfl ?_
      refine V_iload_n (pc := 1116) hk dL_law_1116 3 rfl ?_
      refine V_iconst (pc := 1117) (v := 3) hk dL_law_1117 rfl ?_
      refine V_iadd (pc := 1118) hk dL_law_1118 ?_
      refine V_iaload (pc := 1119) hk dL_law_1119 (fun v202 => ?_)
      refine V_aload_n (pc := 1120) hk dL_law_1120 0 rfl ?_
      refine V_iload_n (pc := 1121) hk dL_law_1121 3 rfl ?_
      refine V_iconst (pc := 1122) (v := 4) hk dL_law_1122 rfl ?_
      refine V_iadd (pc := 1123) hk dL_law_1123 ?_
      refine V_iaload (pc := 1124) hk dL_law_1124 (fun v203 => ?_)
      refine n_L_145 (pc := 1125) hk (fun b r h => ctX0_bar (fl y) (fK y) hk.2.2.2.2.2.2.2.1 b v200 v201 v202 v203 w r h) ⟨Nat.le_of_ble_eq_true rfl, Nat.le_of_ble_eq_true rfl⟩ (Nat.le_of_ble_eq_true rfl) dL_law_1125 (fun r204 => ?_)
      refine V_aload_n (pc := 1128) hk dL_law_1128 2 rfl ?_
      refine V_aload_n (pc := 1129) hk dL_law_1129 0 rfl ?_
      refine V_iload_n (pc := 1130) hk dL_law_1130 3 rfl ?_
      refine V_iconst (pc := 1131) (v := 1) hk dL_law_1131 rfl ?_
      refine V_iadd (pc := 1132) hk dL_law_1132 ?_
      refine V_iaload (pc := 1133) hk dL_law_1133 (fun v206 => ?_)
      refine V_aload_n (pc := 1134) hk dL_law_1134 0 rfl ?_
      refine V_iload_n (pc := 1135) hk dL_law_1135 3 rfl ?_
      refine V_iconst (pc := 1136) (v := 2) hk dL_law_1136 rfl ?_
      refine V_iadd (pc := 1137) hk dL_law_1137 ?_
      refine V_iaload (pc := 1138) hk dL_law_1138 (fun v207 => ?_)
      refine V_aload_n (pc := 1139) hk dL_law_1139 0 rfl ?_
      refine V_iload_n (pc := 1140) hk dL_law_1140 3 rfl ?_
      refine V_iconst (pc := 1141) (v := 3) hk dL_law_1141 rfl ?_
      refine V_iadd (pc := 1142) hk dL_law_1142 ?_
      refine V_iaload (pc := 1143) hk dL_law_1143 (fun v208 => ?_)
      refine V_aload_n (pc := 1144) hk dL_law_1144 0 rfl ?_
      refine V_iload_n (pc := 1145) hk dL_law_1145 3 rfl ?_
      refine V_iconst (pc := 1146) (v := 4) hk dL_law_1146 rfl ?_
      refine V_iadd (pc := 1147) hk dL_law_1147 ?_
      refine V_iaload (pc := 1148) hk dL_law_1148 (fun v209 => ?_)
      refine n_L_149 (pc := 1149) hk (fun b r h => ctX2_bar (fl y) (fK y) hk.2.2.2.2.2.2.2.1 b v206 v207 v208 v209 r204.2 r h) ⟨Nat.le_of_ble_eq_true rfl, Nat.le_of_ble_eq_true rfl⟩ (Nat.le_of_ble_eq_true rfl) dL_law_1149 (fun r210 => ?_)
      refine V_icmp_eq (pc := 1152) (tgt := 1541) hk dL_law_1152 rfl ?_ ?_
      · refine V_iinc (pc := 1541) (v := 6) (lc' := [(3, .int (l3 + 6)), (0, va_rf l0), (1, va_rf l1), (2, va_rf l2)]) hk dL_law_1541 3 rfl rfl (Nat.le_of_ble_eq_true rfl) (by simp [rf_cat, cat_int, cat_long, cat_ref]) ?_
        refine V_goto (pc := 1544) (tgt := 18) hk dL_law_1544 rfl ?_
        refine V_pick (lc' := [(0, va_rf l0), (1, va_rf l1), (2, va_rf l2), (3, .int (l3 + 6))]) [1, 2, 3, 0] rfl ?_
        exact h18 r210.2 l0 l1 l2 (l3 + 6)
      · refine V_iconst (pc := 1155) (v := 0) hk dL_law_1155 rfl ?_
        exact V_none
    refine V_if (fun hx => ?_) (fun hn32 => ?_)
    · refine V_tblIn (pc := 33) (tgt := 1157) (off := 1124) hk 32 hx dL_law_33 (by decide) (by decide) (by decide +kernel) rfl ?_
      refine V_aload_n (pc := 1157) hk dL_law_1157 1 rfl ?_
      refine V_aload_n (pc := 1158) hk dL_law_1158 0 rfl ?_
      refine V_iload_n (pc := 1159) hk dL_law_1159 3 rfl ?_
      refine V_iconst (pc := 1160) (v := 1) hk dL_law_1160 rfl ?_
      refine V_iadd (pc := 1161) hk dL_law_1161 ?_
      refine V_iaload (pc := 1162) hk dL_law_1162 (fun v212 => ?_)
      refine V_aload_n (pc := 1163) hk dL_law_1163 0 rfl ?_
      refine V_iload_n (pc := 1164) hk dL_law_1164 3 rfl ?_
      refine V_iconst (pc := 1165) (v := 2) hk dL_law_1165 rfl ?_
      refine V_iadd (pc := 1166) hk dL_law_1166 ?_
      refine V_iaload (pc := 1167) hk dL_law_1167 (fun v213 => ?_)
      refine V_if_eq (pc := 1168) (tgt := 1175) hk dL_law_1168 rfl ?_ ?_
      · refine V_iconst (pc := 1175) (v := 0) hk dL_law_1175 rfl ?_
        exact eL_law_p1176 hk hR hst h18 w l0 l1 l2 l3 0 v212 l1
      · refine V_iconst (pc := 1171) (v := 1) hk dL_law_1171 rfl ?_
        refine V_goto (pc := 1172) (tgt := 1176) hk dL_law_1172 rfl ?_
        exact eL_law_p1176 hk hR hst h18 w l0 l1 l2 l3 1 v212 l1
    refine V_if (fun hx => ?_) (fun hn33 => ?_)
    · refine V_tblIn (pc := 33) (tgt := 1206) (off := 1173) hk 33 hx dL_law_33 (by decide) (by decide) (by decide +kernel) rfl ?_
      refine V_aload_n (pc := 1206) hk dL_law_1206 1 rfl ?_
      refine V_aload_n (pc := 1207) hk dL_law_1207 0 rfl ?_
      refine V_iload_n (pc := 1208) hk dL_law_1208 3 rfl ?_
      refine V_iconst (pc := 1209) (v := 1) hk dL_law_1209 rfl ?_
      refine V_iadd (pc := 1210) hk dL_law_1210 ?_
      refine V_iaload (pc := 1211) hk dL_law_1211 (fun v214 => ?_)
      refine n_L_155 (pc := 1212) hk (fun b r h => ctX0_howFar (fl y) (fK y) hk.2.2.2.2.2.2.2.1 b v214 w r h) ⟨Nat.le_of_ble_eq_true rfl, Nat.le_of_ble_eq_true rfl⟩ (Nat.le_of_ble_eq_true rfl) dL_law_1212 (fun r215 => ?_)
      refine V_aload_n (pc := 1215) hk dL_law_1215 2 rfl ?_
      refine V_aload_n (pc := 1216) hk dL_law_1216 0 rfl ?_
      refine V_iload_n (pc := 1217) hk dL_law_1217 3 rfl ?_
      refine V_iconst (pc := 1218) (v := 1) hk dL_law_1218 rfl ?_
      refine V_iadd (pc := 1219) hk dL_law_1219 ?_
      refine V_iaload (pc := 1220) hk dL_law_1220 (fun v217 => ?_)
      refine n_L_158 (pc := 1221) hk (fun b r h => ctX2_howFar (fl y) (fK y) hk.2.2.2.2.2.2.2.1 b v217 r215.2 r h) ⟨Nat.le_of_ble_eq_true rfl, Nat.le_of_ble_eq_true rfl⟩ (Nat.le_of_ble_eq_true rfl) dL_law_1221 (fun r218 => ?_)
      refine V_icmp_eq (pc := 1224) (tgt := 1541) hk dL_law_1224 rfl ?_ ?_
      · refine V_iinc (pc := 1541) (v := 6) (lc' := [(3, .int (l3 + 6)), (0, va_rf l0), (1, va_rf l1), (2, va_rf l2)]) hk dL_law_1541 3 rfl rfl (Nat.le_of_ble_eq_true rfl) (by simp [rf_cat, cat_int, cat_long, cat_ref]) ?_
        refine V_goto (pc := 1544) (tgt := 18) hk dL_law_1544 rfl ?_
        refine V_pick (lc' := [(0, va_rf l0), (1, va_rf l1), (2, va_rf l2), (3, .int (l3 + 6))]) [1, 2, 3, 0] rfl ?_
        exact h18 r218.2 l0 l1 l2 (l3 + 6)
      · refine V_iconst (pc := 1227) (v := 0) hk dL_law_1227 rfl ?_
        exact V_none
    refine V_if (fun hx => ?_) (fun hn34 => ?_)
    · refine V_tblIn (pc := 33) (tgt := 1229) (off := 1196) hk 34 hx dL_law_33 (by decide) (by decide) (by decide +kernel) rfl ?_
      refine V_aload_n (pc := 1229) hk dL_law_1229 1 rfl ?_
      refine n_L_159 (pc := 1230) hk (fun b r h => ctX0_over (fl y) (fK y) hk.2.2.2.2.2.2.2.1 b w r h) ⟨Nat.le_of_ble_eq_true rfl, Nat.le_of_ble_eq_true rfl⟩ (Nat.le_of_ble_eq_true rfl) dL_law_1230 (fun r220 => ?_)
      refine V_aload_n (pc := 1233) hk dL_law_1233 2 rfl ?_
      refine n_L_162 (pc := 1234) hk (fun b r h => ctX2_over (fl y) (fK y) hk.2.2.2.2.2.2.2.1 b r220.2 r h) ⟨Nat.le_of_ble_eq_true rfl, Nat.le_of_ble_eq_true rfl⟩ (Nat.le_of_ble_eq_true rfl) dL_law_1234 (fun r222 => ?_)
      refine V_icmp_eq (pc := 1237) (tgt := 1541) hk dL_law_1237 rfl ?_ ?_
      · refine V_iinc (pc := 1541) (v := 6) (lc' := [(3, .int (l3 + 6)), (0, va_rf l0), (1, va_rf l1), (2, va_rf l2)]) hk dL_law_1541 3 rfl rfl (Nat.le_of_ble_eq_true rfl) (by simp [rf_cat, cat_int, cat_long, cat_ref]) ?_
        refine V_goto (pc := 1544) (tgt := 18) hk dL_law_1544 rfl ?_
        refine V_pick (lc' := [(0, va_rf l0), (1, va_rf l1), (2, va_rf l2), (3, .int (l3 + 6))]) [1, 2, 3, 0] rfl ?_
        exact h18 r222.2 l0 l1 l2 (l3 + 6)
      · refine V_iconst (pc := 1240) (v := 0) hk dL_law_1240 rfl ?_
        exact V_none
    refine V_if (fun hx => ?_) (fun hn35 => ?_)
    · refine V_tblIn (pc := 33) (tgt := 1242) (off := 1209) hk 35 hx dL_law_33 (by decide) (by decide) (by decide +kernel) rfl ?_
      refine V_aload_n (pc := 1242) hk dL_law_1242 1 rfl ?_
      refine V_aload_n (pc := 1243) hk dL_law_1243 0 rfl ?_
      refine V_iload_n (pc := 1244) hk dL_law_1244 3 rfl ?_
      refine V_iconst (pc := 1245) (v := 1) hk dL_law_1245 rfl ?_
      refine V_iadd (pc := 1246) hk dL_law_1246 ?_
      refine V_iaload (pc := 1247) hk dL_law_1247 (fun v224 => ?_)
      refine V_aload_n (pc := 1248) hk dL_law_1248 0 rfl ?_
      refine V_iload_n (pc := 1249) hk dL_law_1249 3 rfl ?_
      refine V_iconst (pc := 1250) (v := 2) hk dL_law_1250 rfl ?_
      refine V_iadd (pc := 1251) hk dL_law_1251 ?_
      refine V_iaload (pc := 1252) hk dL_law_1252 (fun v225 => ?_)
      refine n_L_163 (pc := 1253) hk (fun b r h => ctX0_first (fl y) (fK y) hk.2.2.2.2.2.2.2.1 b v224 v225 w r h) ⟨Nat.le_of_ble_eq_true rfl, Nat.le_of_ble_eq_true rfl⟩ (Nat.le_of_ble_eq_true rfl) dL_law_1253 (fun r226 => ?_)
      refine V_aload_n (pc := 1256) hk dL_law_1256 2 rfl ?_
      refine V_aload_n (pc := 1257) hk dL_law_1257 0 rfl ?_
      refine V_iload_n (pc := 1258) hk dL_law_1258 3 rfl ?_
      refine V_iconst (pc := 1259) (v := 1) hk dL_law_1259 rfl ?_
      refine V_iadd (pc := 1260) hk dL_law_1260 ?_
      refine V_iaload (pc := 1261) hk dL_law_1261 (fun v228 => ?_)
      refine V_aload_n (pc := 1262) hk dL_law_1262 0 rfl ?_
      refine V_iload_n (pc := 1263) hk dL_law_1263 3 rfl ?_
      refine V_iconst (pc := 1264) (v := 2) hk dL_law_1264 rfl ?_
      refine V_iadd (pc := 1265) hk dL_law_1265 ?_
      refine V_iaload (pc := 1266) hk dL_law_1266 (fun v229 => ?_)
      refine n_L_166 (pc := 1267) hk (fun b r h => ctX2_first (fl y) (fK y) hk.2.2.2.2.2.2.2.1 b v228 v229 r226.2 r h) ⟨Nat.le_of_ble_eq_true rfl, Nat.le_of_ble_eq_true rfl⟩ (Nat.le_of_ble_eq_true rfl) dL_law_1267 (fun r230 => ?_)
      refine V_icmp_eq (pc := 1270) (tgt := 1541) hk dL_law_1270 rfl ?_ ?_
      · refine V_iinc (pc := 1541) (v := 6) (lc' := [(3, .int (l3 + 6)), (0, va_rf l0), (1, va_rf l1), (2, va_rf l2)]) hk dL_law_1541 3 rfl rfl (Nat.le_of_ble_eq_true rfl) (by simp [rf_cat, cat_int, cat_long, cat_ref]) ?_
        refine V_goto (pc := 1544) (tgt := 18) hk dL_law_1544 rfl ?_
        refine V_pick (lc' := [(0, va_rf l0), (1, va_rf l1), (2, va_rf l2), (3, .int (l3 + 6))]) [1, 2, 3, 0] rfl ?_
        exact h18 r230.2 l0 l1 l2 (l3 + 6)
      · refine V_iconst (pc := 1273) (v := 0) hk dL_law_1273 rfl ?_
        exact V_none
    refine V_if (fun hx => ?_) (fun hn36 => ?_)
    · refine V_tblIn (pc := 33) (tgt := 1275) (off := 1242) hk 36 hx dL_law_33 (by decide) (by decide) (by decide +kernel) rfl ?_
      refine V_aload_n (pc := 1275) hk dL_law_1275 1 rfl ?_
      refine V_aload_n (pc := 1276) hk dL_law_1276 0 rfl ?_
      refine V_iload_n (pc := 1277) hk dL_law_1277 3 rfl ?_
      refine V_iconst (pc := 1278) (v := 1) hk dL_law_1278 rfl ?_
      refine V_iadd (pc := 1279) hk dL_law_1279 ?_
      refine V_iaload (pc := 1280) hk dL_law_1280 (fun v232 => ?_)
      refine V_aload_n (pc := 1281) hk dL_law_1281 0 rfl ?_
      refine V_iload_n (pc := 1282) hk dL_law_1282 3 rfl ?_
      refine V_iconst (pc := 1283) (v := 2) hk dL_law_1283 rfl ?_
      refine V_iadd (pc := 1284) hk dL_law_1284 ?_
      refine V_iaload (pc := 1285) hk dL_law_1285 (fun v233 => ?_)
      refine n_L_167 (pc := 1286) hk (fun b r h => ctX0_twoJibs (fl y) (fK y) hk.2.2.2.2.2.2.2.1 b v232 v233 w r h) ⟨Nat.le_of_ble_eq_true rfl, Nat.le_of_ble_eq_true rfl⟩ (Nat.le_of_ble_eq_true rfl) dL_law_1286 (fun r234 => ?_)
      refine V_aload_n (pc := 1289) hk dL_law_1289 2 rfl ?_
      refine V_aload_n (pc := 1290) hk dL_law_1290 0 rfl ?_
      refine V_iload_n (pc := 1291) hk dL_law_1291 3 rfl ?_
      refine V_iconst (pc := 1292) (v := 1) hk dL_law_1292 rfl ?_
      refine V_iadd (pc := 1293) hk dL_law_1293 ?_
      refine V_iaload (pc := 1294) hk dL_law_1294 (fun v236 => ?_)
      refine V_aload_n (pc := 1295) hk dL_law_1295 0 rfl ?_
      refine V_iload_n (pc := 1296) hk dL_law_1296 3 rfl ?_
      refine V_iconst (pc := 1297) (v := 2) hk dL_law_1297 rfl ?_
      refine V_iadd (pc := 1298) hk dL_law_1298 ?_
      refine V_iaload (pc := 1299) hk dL_law_1299 (fun v237 => ?_)
      refine n_L_170 (pc := 1300) hk (fun b r h => ctX2_twoJibs (fl y) (fK y) hk.2.2.2.2.2.2.2.1 b v236 v237 r234.2 r h) ⟨Nat.le_of_ble_eq_true rfl, Nat.le_of_ble_eq_true rfl⟩ (Nat.le_of_ble_eq_true rfl) dL_law_1300 (fun r238 => ?_)
      refine V_icmp_eq (pc := 1303) (tgt := 1541) hk dL_law_1303 rfl ?_ ?_
      · refine V_iinc (pc := 1541) (v := 6) (lc' := [(3, .int (l3 + 6)), (0, va_rf l0), (1, va_rf l1), (2, va_rf l2)]) hk dL_law_1541 3 rfl rfl (Nat.le_of_ble_eq_true rfl) (by simp [rf_cat, cat_int, cat_long, cat_ref]) ?_
        refine V_goto (pc := 1544) (tgt := 18) hk dL_law_1544 rfl ?_
        refine V_pick (lc' := [(0, va_rf l0), (1, va_rf l1), (2, va_rf l2), (3, .int (l3 + 6))]) [1, 2, 3, 0] rfl ?_
        exact h18 r238.2 l0 l1 l2 (l3 + 6)
      · refine V_iconst (pc := 1306) (v := 0) hk dL_law_1306 rfl ?_
        exact V_none
    refine V_if (fun hx => ?_) (fun hn37 => ?_)
    · refine V_tblIn (pc := 33) (tgt := 1308) (off := 1275) hk 37 hx dL_law_33 (by decide) (by decide) (by decide +kernel) rfl ?_
      refine V_aload_n (pc := 1308) hk dL_law_1308 1 rfl ?_
      refine V_aload_n (pc := 1309) hk dL_law_1309 0 rfl ?_
      refine V_iload_n (pc := 1310) hk dL_law_1310 3 rfl ?_
      refine V_iconst (pc := 1311) (v := 1) hk dL_law_1311 rfl ?_
      refine V_iadd (pc := 1312) hk dL_law_1312 ?_
      refine V_iaload (pc := 1313) hk dL_law_1313 (fun v240 => ?_)
      refine V_aload_n (pc := 1314) hk dL_law_1314 0 rfl ?_
      refine V_iload_n (pc := 1315) hk dL_law_1315 3 rfl ?_
      refine V_iconst (pc := 1316) (v := 2) hk dL_law_1316 rfl ?_
      refine V_iadd (pc := 1317) hk dL_law_1317 ?_
      refine V_iaload (pc := 1318) hk dL_law_1318 (fun v241 => ?_)
      refine V_if_eq (pc := 1319) (tgt := 1326) hk dL_law_1319 rfl ?_ ?_
      · refine V_iconst (pc := 1326) (v := 0) hk dL_law_1326 rfl ?_
        exact eL_law_p1327 hk hR hst h18 w l0 l1 l2 l3 0 v240 l1
      · refine V_iconst (pc := 1322) (v := 1) hk dL_law_1322 rfl ?_
        refine V_goto (pc := 1323) (tgt := 1327) hk dL_law_1323 rfl ?_
        exact eL_law_p1327 hk hR hst h18 w l0 l1 l2 l3 1 v240 l1
    refine V_if (fun hx => ?_) (fun hn38 => ?_)
    · refine V_tblIn (pc := 33) (tgt := 1357) (off := 1324) hk 38 hx dL_law_33 (by decide) (by decide) (by decide +kernel) rfl ?_
      refine V_aload_n (pc := 1357) hk dL_law_1357 1 rfl ?_
      refine V_aload_n (pc := 1358) hk dL_law_1358 0 rfl ?_
      refine V_iload_n (pc := 1359) hk dL_law_1359 3 rfl ?_
      refine V_iconst (pc := 1360) (v := 1) hk dL_law_1360 rfl ?_
      refine V_iadd (pc := 1361) hk dL_law_1361 ?_
      refine V_iaload (pc := 1362) hk dL_law_1362 (fun v242 => ?_)
      refine V_if_eq (pc := 1363) (tgt := 1370) hk dL_law_1363 rfl ?_ ?_
      · refine V_iconst (pc := 1370) (v := 0) hk dL_law_1370 rfl ?_
        exact eL_law_p1371 hk hR hst h18 w l0 l1 l2 l3 0 l1
      · refine V_iconst (pc := 1366) (v := 1) hk dL_law_1366 rfl ?_
        refine V_goto (pc := 1367) (tgt := 1371) hk dL_law_1367 rfl ?_
        exact eL_law_p1371 hk hR hst h18 w l0 l1 l2 l3 1 l1
    refine V_if (fun hx => ?_) (fun hn39 => ?_)
    · refine V_tblIn (pc := 33) (tgt := 1397) (off := 1364) hk 39 hx dL_law_33 (by decide) (by decide) (by decide +kernel) rfl ?_
      refine V_aload_n (pc := 1397) hk dL_law_1397 1 rfl ?_
      refine V_aload_n (pc := 1398) hk dL_law_1398 0 rfl ?_
      refine V_iload_n (pc := 1399) hk dL_law_1399 3 rfl ?_
      refine V_iconst (pc := 1400) (v := 1) hk dL_law_1400 rfl ?_
      refine V_iadd (pc := 1401) hk dL_law_1401 ?_
      refine V_iaload (pc := 1402) hk dL_law_1402 (fun v243 => ?_)
      refine V_aload_n (pc := 1403) hk dL_law_1403 0 rfl ?_
      refine V_iload_n (pc := 1404) hk dL_law_1404 3 rfl ?_
      refine V_iconst (pc := 1405) (v := 2) hk dL_law_1405 rfl ?_
      refine V_iadd (pc := 1406) hk dL_law_1406 ?_
      refine V_iaload (pc := 1407) hk dL_law_1407 (fun v244 => ?_)
      refine n_L_180 (pc := 1408) hk (fun b r h => ctX0_landed (fl y) (fK y) hk.2.2.2.2.2.2.2.1 b v243 v244 w r h) ⟨Nat.le_of_ble_eq_true rfl, Nat.le_of_ble_eq_true rfl⟩ (Nat.le_of_ble_eq_true rfl) dL_law_1408 (fun r245 => ?_)
      refine V_aload_n (pc := 1411) hk dL_law_1411 2 rfl ?_
      refine V_aload_n (pc := 1412) hk dL_law_1412 0 rfl ?_
      refine V_iload_n (pc := 1413) hk dL_law_1413 3 rfl ?_
      refine V_iconst (pc := 1414) (v := 1) hk dL_law_1414 rfl ?_
      refine V_iadd (pc := 1415) hk dL_law_1415 ?_
      refine V_iaload (pc := 1416) hk dL_law_1416 (fun v247 => ?_)
      refine V_aload_n (pc := 1417) hk dL_law_1417 0 rfl ?_
      refine V_iload_n (pc := 1418) hk dL_law_1418 3 rfl ?_
      refine V_iconst (pc := 1419) (v := 2) hk dL_law_1419 rfl ?_
      refine V_iadd (pc := 1420) hk dL_law_1420 ?_
      refine V_iaload (pc := 1421) hk dL_law_1421 (fun v248 => ?_)
      refine n_L_183 (pc := 1422) hk (fun b r h => ctX2_landed (fl y) (fK y) hk.2.2.2.2.2.2.2.1 b v247 v248 r245.2 r h) ⟨Nat.le_of_ble_eq_true rfl, Nat.le_of_ble_eq_true rfl⟩ (Nat.le_of_ble_eq_true rfl) dL_law_1422 (fun r249 => ?_)
      refine V_icmp_eq (pc := 1425) (tgt := 1541) hk dL_law_1425 rfl ?_ ?_
      · refine V_iinc (pc := 1541) (v := 6) (lc' := [(3, .int (l3 + 6)), (0, va_rf l0), (1, va_rf l1), (2, va_rf l2)]) hk dL_law_1541 3 rfl rfl (Nat.le_of_ble_eq_true rfl) (by simp [rf_cat, cat_int, cat_long, cat_ref]) ?_
        refine V_goto (pc := 1544) (tgt := 18) hk dL_law_1544 rfl ?_
        refine V_pick (lc' := [(0, va_rf l0), (1, va_rf l1), (2, va_rf l2), (3, .int (l3 + 6))]) [1, 2, 3, 0] rfl ?_
        exact h18 r249.2 l0 l1 l2 (l3 + 6)
      · refine V_iconst (pc := 1428) (v := 0) hk dL_law_1428 rfl ?_
        exact V_none
    refine V_if (fun hx => ?_) (fun hn40 => ?_)
    · refine V_tblIn (pc := 33) (tgt := 1430) (off := 1397) hk 40 hx dL_law_33 (by decide) (by decide) (by decide +kernel) rfl ?_
      refine V_aload_n (pc := 1430) hk dL_law_1430 1 rfl ?_
      refine V_aload_n (pc := 1431) hk dL_law_1431 0 rfl ?_
      refine V_iload_n (pc := 1432) hk dL_law_1432 3 rfl ?_
      refine V_iconst (pc := 1433) (v := 1) hk dL_law_1433 rfl ?_
      refine V_iadd (pc := 1434) hk dL_law_1434 ?_
      refine V_iaload (pc := 1435) hk dL_law_1435 (fun v251 => ?_)
      refine n_L_184 (pc := 1436) hk (fun b r h => ctX0_hour (fl y) (fK y) hk.2.2.2.2.2.2.2.1 b v251 w r h) ⟨Nat.le_of_ble_eq_true rfl, Nat.le_of_ble_eq_true rfl⟩ (Nat.le_of_ble_eq_true rfl) dL_law_1436 (fun r252 => ?_)
      refine V_aload_n (pc := 1439) hk dL_law_1439 2 rfl ?_
      refine V_aload_n (pc := 1440) hk dL_law_1440 0 rfl ?_
      refine V_iload_n (pc := 1441) hk dL_law_1441 3 rfl ?_
      refine V_iconst (pc := 1442) (v := 1) hk dL_law_1442 rfl ?_
      refine V_iadd (pc := 1443) hk dL_law_1443 ?_
      refine V_iaload (pc := 1444) hk dL_law_1444 (fun v254 => ?_)
      refine n_L_187 (pc := 1445) hk (fun b r h => ctX2_hour (fl y) (fK y) hk.2.2.2.2.2.2.2.1 b v254 r252.2 r h) ⟨Nat.le_of_ble_eq_true rfl, Nat.le_of_ble_eq_true rfl⟩ (Nat.le_of_ble_eq_true rfl) dL_law_1445 (fun r255 => ?_)
      refine V_icmp_eq (pc := 1448) (tgt := 1541) hk dL_law_1448 rfl ?_ ?_
      · refine V_iinc (pc := 1541) (v := 6) (lc' := [(3, .int (l3 + 6)), (0, va_rf l0), (1, va_rf l1), (2, va_rf l2)]) hk dL_law_1541 3 rfl rfl (Nat.le_of_ble_eq_true rfl) (by simp [rf_cat, cat_int, cat_long, cat_ref]) ?_
        refine V_goto (pc := 1544) (tgt := 18) hk dL_law_1544 rfl ?_
        refine V_pick (lc' := [(0, va_rf l0), (1, va_rf l1), (2, va_rf l2), (3, .int (l3 + 6))]) [1, 2, 3, 0] rfl ?_
        exact h18 r255.2 l0 l1 l2 (l3 + 6)
      · refine V_iconst (pc := 1451) (v := 0) hk dL_law_1451 rfl ?_
        exact V_none
    refine V_if (fun hx => ?_) (fun hn41 => ?_)
    · refine V_tblIn (pc := 33) (tgt := 1453) (off := 1420) hk 41 hx dL_law_33 (by decide) (by decide) (by decide +kernel) rfl ?_
      refine V_aload_n (pc := 1453) hk dL_law_1453 1 rfl ?_
      refine V_aload_n (pc := 1454) hk dL_law_1454 0 rfl ?_
      refine V_iload_n (pc := 1455) hk dL_law_1455 3 rfl ?_
      refine V_iconst (pc := 1456) (v := 1) hk dL_law_1456 rfl ?_
      refine V_iadd (pc := 1457) hk dL_law_1457 ?_
      refine V_iaload (pc := 1458) hk dL_law_1458 (fun v257 => ?_)
      refine V_if_eq (pc := 1459) (tgt := 1466) hk dL_law_1459 rfl ?_ ?_
      · refine V_iconst (pc := 1466) (v := 0) hk dL_law_1466 rfl ?_
        exact eL_law_p1467 hk hR hst h18 w l0 l1 l2 l3 0 l1
      · refine V_iconst (pc := 1462) (v := 1) hk dL_law_1462 rfl ?_
        refine V_goto (pc := 1463) (tgt := 1467) hk dL_law_1463 rfl ?_
        exact eL_law_p1467 hk hR hst h18 w l0 l1 l2 l3 1 l1
    refine V_if (fun hx => ?_) (fun hn42 => ?_)
    · refine V_tblIn (pc := 33) (tgt := 1492) (off := 1459) hk 42 hx dL_law_33 (by decide) (by decide) (by decide +kernel) rfl ?_
      refine V_aload_n (pc := 1492) hk dL_law_1492 1 rfl ?_
      refine n_L_193 (pc := 1493) hk (fun b r h => ctX0_image (fl y) (fK y) hk.2.2.2.2.2.2.2.1 b w r h) ⟨Nat.le_of_ble_eq_true rfl, Nat.le_of_ble_eq_true rfl⟩ (Nat.le_of_ble_eq_true rfl) dL_law_1493 (fun r258 => ?_)
      refine V_aload_n (pc := 1496) hk dL_law_1496 2 rfl ?_
      refine n_L_196 (pc := 1497) hk (fun b r h => ctX2_image (fl y) (fK y) hk.2.2.2.2.2.2.2.1 b r258.2 r h) ⟨Nat.le_of_ble_eq_true rfl, Nat.le_of_ble_eq_true rfl⟩ (Nat.le_of_ble_eq_true rfl) dL_law_1497 (fun r260 => ?_)
      refine V_icmp_eq (pc := 1500) (tgt := 1541) hk dL_law_1500 rfl ?_ ?_
      · refine V_iinc (pc := 1541) (v := 6) (lc' := [(3, .int (l3 + 6)), (0, va_rf l0), (1, va_rf l1), (2, va_rf l2)]) hk dL_law_1541 3 rfl rfl (Nat.le_of_ble_eq_true rfl) (by simp [rf_cat, cat_int, cat_long, cat_ref]) ?_
        refine V_goto (pc := 1544) (tgt := 18) hk dL_law_1544 rfl ?_
        refine V_pick (lc' := [(0, va_rf l0), (1, va_rf l1), (2, va_rf l2), (3, .int (l3 + 6))]) [1, 2, 3, 0] rfl ?_
        exact h18 r260.2 l0 l1 l2 (l3 + 6)
      · refine V_iconst (pc := 1503) (v := 0) hk dL_law_1503 rfl ?_
        exact V_none
    refine V_if (fun hx => ?_) (fun hn43 => ?_)
    · refine V_tblIn (pc := 33) (tgt := 1505) (off := 1472) hk 43 hx dL_law_33 (by decide) (by decide) (by decide +kernel) rfl ?_
      refine V_aload_n (pc := 1505) hk dL_law_1505 1 rfl ?_
      refine n_L_197 (pc := 1506) hk (fun b r h => ctX0_back (fl y) (fK y) hk.2.2.2.2.2.2.2.1 b w r h) ⟨Nat.le_of_ble_eq_true rfl, Nat.le_of_ble_eq_true rfl⟩ (Nat.le_of_ble_eq_true rfl) dL_law_1506 (fun r262 => ?_)
      refine V_aload_n (pc := 1509) hk dL_law_1509 2 rfl ?_
      refine n_L_200 (pc := 1510) hk (fun b r h => ctX2_back (fl y) (fK y) hk.2.2.2.2.2.2.2.1 b r262.2 r h) ⟨Nat.le_of_ble_eq_true rfl, Nat.le_of_ble_eq_true rfl⟩ (Nat.le_of_ble_eq_true rfl) dL_law_1510 (fun r264 => ?_)
      refine V_icmp_eq (pc := 1513) (tgt := 1541) hk dL_law_1513 rfl ?_ ?_
      · refine V_iinc (pc := 1541) (v := 6) (lc' := [(3, .int (l3 + 6)), (0, va_rf l0), (1, va_rf l1), (2, va_rf l2)]) hk dL_law_1541 3 rfl rfl (Nat.le_of_ble_eq_true rfl) (by simp [rf_cat, cat_int, cat_long, cat_ref]) ?_
        refine V_goto (pc := 1544) (tgt := 18) hk dL_law_1544 rfl ?_
        refine V_pick (lc' := [(0, va_rf l0), (1, va_rf l1), (2, va_rf l2), (3, .int (l3 + 6))]) [1, 2, 3, 0] rfl ?_
        exact h18 r264.2 l0 l1 l2 (l3 + 6)
      · refine V_iconst (pc := 1516) (v := 0) hk dL_law_1516 rfl ?_
        exact V_none
    refine V_if (fun hx => ?_) (fun hn44 => ?_)
    · refine V_tblIn (pc := 33) (tgt := 1518) (off := 1485) hk 44 hx dL_law_33 (by decide) (by decide) (by decide +kernel) rfl ?_
      refine V_aload_n (pc := 1518) hk dL_law_1518 1 rfl ?_
      refine V_aload_n (pc := 1519) hk dL_law_1519 0 rfl ?_
      refine V_iload_n (pc := 1520) hk dL_law_1520 3 rfl ?_
      refine V_iconst (pc := 1521) (v := 1) hk dL_law_1521 rfl ?_
      refine V_iadd (pc := 1522) hk dL_law_1522 ?_
      refine V_iaload (pc := 1523) hk dL_law_1523 (fun v266 => ?_)
      refine n_L_201 (pc := 1524) hk (fun b r h => ctX0_about (fl y) (fK y) hk.2.2.2.2.2.2.2.1 b v266 w r h) ⟨Nat.le_of_ble_eq_true rfl, Nat.le_of_ble_eq_true rfl⟩ (Nat.le_of_ble_eq_true rfl) dL_law_1524 (fun r267 => ?_)
      refine V_aload_n (pc := 1527) hk dL_law_1527 2 rfl ?_
      refine V_aload_n (pc := 1528) hk dL_law_1528 0 rfl ?_
      refine V_iload_n (pc := 1529) hk dL_law_1529 3 rfl ?_
      refine V_iconst (pc := 1530) (v := 1) hk dL_law_1530 rfl ?_
      refine V_iadd (pc := 1531) hk dL_law_1531 ?_
      refine V_iaload (pc := 1532) hk dL_law_1532 (fun v269 => ?_)
      refine n_L_204 (pc := 1533) hk (fun b r h => ctX2_about (fl y) (fK y) hk.2.2.2.2.2.2.2.1 b v269 r267.2 r h) ⟨Nat.le_of_ble_eq_true rfl, Nat.le_of_ble_eq_true rfl⟩ (Nat.le_of_ble_eq_true rfl) dL_law_1533 (fun r270 => ?_)
      refine V_icmp_eq (pc := 1536) (tgt := 1541) hk dL_law_1536 rfl ?_ ?_
      · refine V_iinc (pc := 1541) (v := 6) (lc' := [(3, .int (l3 + 6)), (0, va_rf l0), (1, va_rf l1), (2, va_rf l2)]) hk dL_law_1541 3 rfl rfl (Nat.le_of_ble_eq_true rfl) (by simp [rf_cat, cat_int, cat_long, cat_ref]) ?_
        refine V_goto (pc := 1544) (tgt := 18) hk dL_law_1544 rfl ?_
        refine V_pick (lc' := [(0, va_rf l0), (1, va_rf l1), (2, va_rf l2), (3, .int (l3 + 6))]) [1, 2, 3, 0] rfl ?_
        exact h18 r270.2 l0 l1 l2 (l3 + 6)
      · refine V_iconst (pc := 1539) (v := 0) hk dL_law_1539 rfl ?_
        exact V_none
    refine V_tblOut (pc := 33) (tgt := 1541) hk dL_law_33 (tbl_out 0 44 (by intro k h1 h2; obtain rfl | rfl | rfl | rfl | rfl | rfl | rfl | rfl | rfl | rfl | rfl | rfl | rfl | rfl | rfl | rfl | rfl | rfl | rfl | rfl | rfl | rfl | rfl | rfl | rfl | rfl | rfl | rfl | rfl | rfl | rfl | rfl | rfl | rfl | rfl | rfl | rfl | rfl | rfl | rfl | rfl | rfl | rfl | rfl | rfl : k = 0 ∨ k = 1 ∨ k = 2 ∨ k = 3 ∨ k = 4 ∨ k = 5 ∨ k = 6 ∨ k = 7 ∨ k = 8 ∨ k = 9 ∨ k = 10 ∨ k = 11 ∨ k = 12 ∨ k = 13 ∨ k = 14 ∨ k = 15 ∨ k = 16 ∨ k = 17 ∨ k = 18 ∨ k = 19 ∨ k = 20 ∨ k = 21 ∨ k = 22 ∨ k = 23 ∨ k = 24 ∨ k = 25 ∨ k = 26 ∨ k = 27 ∨ k = 28 ∨ k = 29 ∨ k = 30 ∨ k = 31 ∨ k = 32 ∨ k = 33 ∨ k = 34 ∨ k = 35 ∨ k = 36 ∨ k = 37 ∨ k = 38 ∨ k = 39 ∨ k = 40 ∨ k = 41 ∨ k = 42 ∨ k = 43 ∨ k = 44 := (by omega); exact hn0; exact hn1; exact hn2; exact hn3; exact hn4; exact hn5; exact hn6; exact hn7; exact hn8; exact hn9; exact hn10; exact hn11; exact hn12; exact hn13; exact hn14; exact hn15; exact hn16; exact hn17; exact hn18; exact hn19; exact hn20; exact hn21; exact hn22; exact hn23; exact hn24; exact hn25; exact hn26; exact hn27; exact hn28; exact hn29; exact hn30; exact hn31; exact hn32; exact hn33; exact hn34; exact hn35; exact hn36; exact hn37; exact hn38; exact hn39; exact hn40; exact hn41; exact hn42; exact hn43; exact hn44)) rfl ?_
    refine V_iinc (pc := 1541) (v := 6) (lc' := [(3, .int (l3 + 6)), (0, va_rf l0), (1, va_rf l1), (2, va_rf l2)]) hk dL_law_1541 3 rfl rfl (Nat.le_of_ble_eq_true rfl) (by simp [rf_cat, cat_int, cat_long, cat_ref]) ?_
    refine V_goto (pc := 1544) (tgt := 18) hk dL_law_1544 rfl ?_
    refine V_pick (lc' := [(0, va_rf l0), (1, va_rf l1), (2, va_rf l2), (3, .int (l3 + 6))]) [1, 2, 3, 0] rfl ?_
    exact h18 w l0 l1 l2 (l3 + 6)
theorem eL_law_l18 {y : Fx (Unit × Wd)} (hk : OkF y RL cL_law 4 8192 100000) (hR : RetL y) (hst : (fl y).stackTraces = false) : ∀ (n : Nat) (w : Wd) (l0 : Option Nat) (l1 : Option Nat) (l2 : Option Nat) (l3 : Int32), V y w [(0, va_rf l0), (1, va_rf l1), (2, va_rf l2), (3, .int l3)] [] 18 (mL_law_l18 n w l0 l1 l2 l3) := by
  intro n
  induction n with
  | zero => intro w l0 l1 l2 l3; exact V_none
  | succ n ih => intro w l0 l1 l2 l3; exact eL_law_b18 hk hR hst ih w l0 l1 l2 l3
theorem eL_law {y : Fx (Unit × Wd)} (hk : OkF y RL cL_law 4 8192 100000) (hR : RetL y) (hst : (fl y).stackTraces = false) (a0 : Option Nat) (w : Wd) : V y w [(0, va_rf a0)] [] 0 (mL_law a0 w) := by
  unfold mL_law
  refine o_L_7 (pc := 0) hk dL_law_0 ?_
  refine V_nmW (fun w1 => ?_)
  refine V_dup (pc := 3) hk dL_law_3 (rf_cat _) ?_
  refine n_L_9 (pc := 4) hk (fun b r h => ctX0_init (fl y) (fK y) hk.2.2.2.2.2.2.2.1 b w1 r h) ⟨Nat.le_of_ble_eq_true rfl, Nat.le_of_ble_eq_true rfl⟩ (by simp [rf_cat, cat_int, cat_long, cat_ref]) dL_law_4 (fun r2 => ?_)
  refine V_astore_n (pc := 7) (lc' := [(1, va_rf ((some (wnx w)))), (0, va_rf a0)]) (i := 1) hk dL_law_7 rfl (Nat.le_of_ble_eq_true rfl) (by simp [rf_cat, cat_int, cat_long, cat_ref]) ?_
  refine o_L_10 (pc := 8) hk dL_law_8 ?_
  refine V_nmW (fun w4 => ?_)
  refine V_dup (pc := 11) hk dL_law_11 (rf_cat _) ?_
  refine n_L_12 (pc := 12) hk (fun b r h => ctX2_init (fl y) (fK y) hk.2.2.2.2.2.2.2.1 b w4 r h) ⟨Nat.le_of_ble_eq_true rfl, Nat.le_of_ble_eq_true rfl⟩ (by simp [rf_cat, cat_int, cat_long, cat_ref]) dL_law_12 (fun r5 => ?_)
  refine V_astore_n (pc := 15) (lc' := [(2, va_rf ((some (wnx r2.2)))), (1, va_rf ((some (wnx w)))), (0, va_rf a0)]) (i := 2) hk dL_law_15 rfl (Nat.le_of_ble_eq_true rfl) (by simp [rf_cat, cat_int, cat_long, cat_ref]) ?_
  refine V_iconst (pc := 16) (v := 0) hk dL_law_16 rfl ?_
  refine V_istore_n (pc := 17) (lc' := [(3, .int 0), (2, va_rf ((some (wnx r2.2)))), (1, va_rf ((some (wnx w)))), (0, va_rf a0)]) (i := 3) hk dL_law_17 rfl (Nat.le_of_ble_eq_true rfl) (by simp [rf_cat, cat_int, cat_long, cat_ref]) ?_
  refine V_pick (lc' := [(0, va_rf a0), (1, va_rf ((some (wnx w)))), (2, va_rf ((some (wnx r2.2)))), (3, .int 0)]) [3, 2, 1, 0] rfl ?_
  exact eL_law_l18 hk hR hst FU r5.2 a0 ((some (wnx w))) ((some (wnx r2.2))) 0
