set_option maxRecDepth 100000
set_option maxHeartbeats 4000000
abbrev mi_L_law : xM := (cL_law, yL_law, 7, some .boolean, 96)
theorem md_L_law : xMD mi_L_law 1 := ⟨by decide, by decide, by decide +kernel⟩
def f_L_law_b1239 (kb : Nat → Nat → Nat → Nat → Int32 → mH → Option (Int32 × mH)) (r0 : Nat) (r1 : Nat) (r2 : Nat) (r3 : Nat) (x4 : Int32) (h : mH) : Option (Int32 × mH) := kb r0 r1 r2 r3 (x4 + (6 : Int32)) h
theorem t_L_law_b1239 {G : xG} {C : xC} {o : Int32 × mH} (hE : xEndL G C o) {kb : Nat → Nat → Nat → Nat → Int32 → mH → Option (Int32 × mH)} (hkb : ∀ (r0 : Nat) (r1 : Nat) (r2 : Nat) (r3 : Nat) (x4 : Int32) (h : mH), kb r0 r1 r2 r3 x4 h = some o → X G C mi_L_law 23 [(0, .ref r0), (1, .ref r1), (2, .ref r2), (3, .ref r3), (4, .int x4)] [] h) (r0 : Nat) (r1 : Nat) (r2 : Nat) (r3 : Nat) (x4 : Int32) (h : mH) (H : f_L_law_b1239 kb r0 r1 r2 r3 x4 h = some o) : X G C mi_L_law 1239 [(0, .ref r0), (1, .ref r1), (2, .ref r2), (3, .ref r3), (4, .int x4)] [] h := by
  unfold f_L_law_b1239 at H
  refine x_iinc 4 (x4 + (6 : Int32)) [1, 2, 3, 4, 0] dL_law_1239 rfl (ii_6 _) (by decide) rfl ?_
  refine x_goto (tgt := 23) dL_law_1242 (by decide) ?_
  exact hkb _ _ _ _ _ _ H
def f_L_law_b389 (kb : Nat → Nat → Nat → Nat → Int32 → mH → Option (Int32 × mH)) (r0 : Nat) (r1 : Nat) (r2 : Nat) (r3 : Nat) (x4 : Int32) (h : mH) : Option (Int32 × mH) := f_L_law_b1239 kb r0 r1 r2 r3 x4 h
theorem t_L_law_b389 {G : xG} {C : xC} {o : Int32 × mH} (hE : xEndL G C o) {kb : Nat → Nat → Nat → Nat → Int32 → mH → Option (Int32 × mH)} (hkb : ∀ (r0 : Nat) (r1 : Nat) (r2 : Nat) (r3 : Nat) (x4 : Int32) (h : mH), kb r0 r1 r2 r3 x4 h = some o → X G C mi_L_law 23 [(0, .ref r0), (1, .ref r1), (2, .ref r2), (3, .ref r3), (4, .int x4)] [] h) (r0 : Nat) (r1 : Nat) (r2 : Nat) (r3 : Nat) (x4 : Int32) (h : mH) (H : f_L_law_b389 kb r0 r1 r2 r3 x4 h = some o) : X G C mi_L_law 389 [(0, .ref r0), (1, .ref r1), (2, .ref r2), (3, .ref r3), (4, .int x4)] [] h := by
  unfold f_L_law_b389 at H
  refine x_goto (tgt := 1239) dL_law_389 (by decide) ?_
  exact t_L_law_b1239 hE hkb _ _ _ _ _ _ H
def f_L_law_L23 : Nat → Nat → Nat → Nat → Nat → Int32 → mH → Option (Int32 × mH)
  | 0, _, _, _, _, _, _ => none
  | n + 1, r0, r1, r2, r3, x4, h => (aN h r0).bind fun v4 => if (v4 - (6 : Int32)) < x4 then some ((1 : Int32), h) else (aI .int h r0 x4).bind fun v6 => if (v6 &&& (63 : Int32)) = (0 : Int32) then (aI .int h r0 (x4 + (1 : Int32))).bind fun v8 => (aI .int h r0 (x4 + (2 : Int32))).bind fun v9 => (aI .int h r0 (x4 + (3 : Int32))).bind fun v10 => (aI .int h r0 (x4 + (4 : Int32))).bind fun v11 => (aI .int h r0 (x4 + (5 : Int32))).bind fun v12 => if gC h r1 = 0 then bR (f_X1_feed r1 v8 v9 v10 v11 v12 h) fun a13 g13 => (aI .int g13 r0 (x4 + (1 : Int32))).bind fun v14 => (aI .int g13 r0 (x4 + (2 : Int32))).bind fun v15 => (aI .int g13 r0 (x4 + (3 : Int32))).bind fun v16 => (aI .int g13 r0 (x4 + (4 : Int32))).bind fun v17 => (aI .int g13 r0 (x4 + (5 : Int32))).bind fun v18 => if gC g13 r2 = 4 then bR (f_X5_feed r2 v14 v15 v16 v17 v18 g13) fun a19 g19 => if a13 = a19 then f_L_law_b1239 (f_L_law_L23 n) r0 r1 r2 r3 x4 g19 else some ((0 : Int32), g19) else none else none else if (v6 &&& (63 : Int32)) = (1 : Int32) then (aI .int h r0 (x4 + (1 : Int32))).bind fun v22 => if gC h r1 = 0 then bR (f_X1_end r1 v22 h) fun a23 g23 => (aI .int g23 r0 (x4 + (1 : Int32))).bind fun v24 => if gC g23 r2 = 4 then bR (f_X5_end r2 v24 g23) fun a25 g25 => if a23 = a25 then f_L_law_b1239 (f_L_law_L23 n) r0 r1 r2 r3 x4 g25 else some ((0 : Int32), g25) else none else none else if (v6 &&& (63 : Int32)) = (2 : Int32) then if gC h r1 = 0 then bR (f_X1_county r1  h) fun a28 g28 => if gC g28 r2 = 4 then bR (f_X5_county r2  g28) fun a29 g29 => if a28 = a29 then f_L_law_b1239 (f_L_law_L23 n) r0 r1 r2 r3 x4 g29 else some ((0 : Int32), g29) else none else none else if (v6 &&& (63 : Int32)) = (3 : Int32) then if gC h r1 = 0 then bR (f_X1_fault r1  h) fun a32 g32 => if gC g32 r2 = 4 then bR (f_X5_fault r2  g32) fun a33 g33 => if a32 = a33 then f_L_law_b1239 (f_L_law_L23 n) r0 r1 r2 r3 x4 g33 else some ((0 : Int32), g33) else none else none else if (v6 &&& (63 : Int32)) = (4 : Int32) then (aI .int h r0 (x4 + (1 : Int32))).bind fun v36 => (aI .int h r0 (x4 + (2 : Int32))).bind fun v37 => bR (f_X0_person r1 v36 v37 r3 h) fun a38 g38 => (aI .int g38 r0 (x4 + (1 : Int32))).bind fun v39 => (aI .int g38 r0 (x4 + (2 : Int32))).bind fun v40 => if gC g38 r2 = 4 then bR (f_X5_person r2 v39 v40 g38) fun a41 g41 => if gC g41 r2 = 4 then bR (f_X5_thrown r2  g41) fun a42 g42 => if a42 = a38 then if a38 = 0 then (aL g42 r3 (0 : Int32)).bind fun v45 => if (lg_cmp v45 (a41.toInt64)) = 0 then f_L_law_b389 (f_L_law_L23 n) r0 r1 r2 r3 x4 g42 else some ((0 : Int32), g42) else f_L_law_b389 (f_L_law_L23 n) r0 r1 r2 r3 x4 g42 else some ((0 : Int32), g42) else none else none else if (v6 &&& (63 : Int32)) = (5 : Int32) then (aI .int h r0 (x4 + (1 : Int32))).bind fun v48 => (aI .int h r0 (x4 + (2 : Int32))).bind fun v49 => (aI .int h r0 (x4 + (3 : Int32))).bind fun v50 => if gC h r1 = 0 then bR (f_X1_good r1 v48 v49 v50 h) fun a51 g51 => (aI .int g51 r0 (x4 + (1 : Int32))).bind fun v52 => (aI .int g51 r0 (x4 + (2 : Int32))).bind fun v53 => (aI .int g51 r0 (x4 + (3 : Int32))).bind fun v54 => if gC g51 r2 = 4 then bR (f_X5_good r2 v52 v53 v54 g51) fun a55 g55 => if a51 = a55 then f_L_law_b1239 (f_L_law_L23 n) r0 r1 r2 r3 x4 g55 else some ((0 : Int32), g55) else none else none else if (v6 &&& (63 : Int32)) = (6 : Int32) then (aI .int h r0 (x4 + (1 : Int32))).bind fun v58 => (aI .int h r0 (x4 + (2 : Int32))).bind fun v59 => if gC h r1 = 0 then bR (f_X1_deals r1 v58 v59 h) fun a60 g60 => (aI .int g60 r0 (x4 + (1 : Int32))).bind fun v61 => (aI .int g60 r0 (x4 + (2 : Int32))).bind fun v62 => if gC g60 r2 = 4 then bR (f_X5_deals r2 v61 v62 g60) fun a63 g63 => if a60 = a63 then f_L_law_b1239 (f_L_law_L23 n) r0 r1 r2 r3 x4 g63 else some ((0 : Int32), g63) else none else none else if (v6 &&& (63 : Int32)) = (7 : Int32) then (aI .int h r0 (x4 + (1 : Int32))).bind fun v66 => if gC h r1 = 0 then bR (f_X1_now r1 v66 h) fun a67 g67 => (aI .int g67 r0 (x4 + (1 : Int32))).bind fun v68 => if gC g67 r2 = 4 then bR (f_X5_now r2 v68 g67) fun a69 g69 => if a67 = a69 then f_L_law_b1239 (f_L_law_L23 n) r0 r1 r2 r3 x4 g69 else some ((0 : Int32), g69) else none else none else if (v6 &&& (63 : Int32)) = (8 : Int32) then (aI .int h r0 (x4 + (1 : Int32))).bind fun v72 => (aI .int h r0 (x4 + (2 : Int32))).bind fun v73 => (aI .int h r0 (x4 + (3 : Int32))).bind fun v74 => if gC h r1 = 0 then bR (f_X1_buy r1 v72 v73 v74 h) fun a75 g75 => (aI .int g75 r0 (x4 + (1 : Int32))).bind fun v76 => (aI .int g75 r0 (x4 + (2 : Int32))).bind fun v77 => (aI .int g75 r0 (x4 + (3 : Int32))).bind fun v78 => if gC g75 r2 = 4 then bR (f_X5_buy r2 v76 v77 v78 g75) fun a79 g79 => if a75 = a79 then f_L_law_b1239 (f_L_law_L23 n) r0 r1 r2 r3 x4 g79 else some ((0 : Int32), g79) else none else none else if (v6 &&& (63 : Int32)) = (9 : Int32) then (aI .int h r0 (x4 + (1 : Int32))).bind fun v82 => (aI .int h r0 (x4 + (2 : Int32))).bind fun v83 => if gC h r1 = 0 then bR (f_X1_nod r1 v82 v83 h) fun a84 g84 => (aI .int g84 r0 (x4 + (1 : Int32))).bind fun v85 => (aI .int g84 r0 (x4 + (2 : Int32))).bind fun v86 => if gC g84 r2 = 4 then bR (f_X5_nod r2 v85 v86 g84) fun a87 g87 => if a84 = a87 then f_L_law_b1239 (f_L_law_L23 n) r0 r1 r2 r3 x4 g87 else some ((0 : Int32), g87) else none else none else if (v6 &&& (63 : Int32)) = (10 : Int32) then (aI .int h r0 (x4 + (1 : Int32))).bind fun v90 => if gC h r1 = 0 then bR (f_X1_veil r1 v90 h) fun a91 g91 => (aI .int g91 r0 (x4 + (1 : Int32))).bind fun v92 => if gC g91 r2 = 4 then bR (f_X5_veil r2 v92 g91) fun a93 g93 => if a91 = a93 then f_L_law_b1239 (f_L_law_L23 n) r0 r1 r2 r3 x4 g93 else some ((0 : Int32), g93) else none else none else if (v6 &&& (63 : Int32)) = (11 : Int32) then (aI .int h r0 (x4 + (1 : Int32))).bind fun v96 => (aI .int h r0 (x4 + (2 : Int32))).bind fun v97 => (aI .int h r0 (x4 + (3 : Int32))).bind fun v98 => if gC h r1 = 0 then bR (f_X1_tell r1 v96 v97 v98 h) fun a99 g99 => (aI .int g99 r0 (x4 + (1 : Int32))).bind fun v100 => (aI .int g99 r0 (x4 + (2 : Int32))).bind fun v101 => (aI .int g99 r0 (x4 + (3 : Int32))).bind fun v102 => if gC g99 r2 = 4 then bR (f_X5_tell r2 v100 v101 v102 g99) fun a103 g103 => if a99 = a103 then f_L_law_b1239 (f_L_law_L23 n) r0 r1 r2 r3 x4 g103 else some ((0 : Int32), g103) else none else none else if (v6 &&& (63 : Int32)) = (12 : Int32) then (aI .int h r0 (x4 + (1 : Int32))).bind fun v106 => if gC h r1 = 0 then bR (f_X1_days r1 v106 h) fun a107 g107 => (aI .int g107 r0 (x4 + (1 : Int32))).bind fun v108 => if gC g107 r2 = 4 then bR (f_X5_days r2 v108 g107) fun a109 g109 => if a107 = a109 then f_L_law_b1239 (f_L_law_L23 n) r0 r1 r2 r3 x4 g109 else some ((0 : Int32), g109) else none else none else if (v6 &&& (63 : Int32)) = (13 : Int32) then if gC h r1 = 0 then bR (f_X1_undo r1  h) fun a112 g112 => if gC g112 r2 = 4 then bR (f_X5_undo r2  g112) fun a113 g113 => if a112 = a113 then f_L_law_b1239 (f_L_law_L23 n) r0 r1 r2 r3 x4 g113 else some ((0 : Int32), g113) else none else none else if (v6 &&& (63 : Int32)) = (14 : Int32) then (aI .int h r0 (x4 + (1 : Int32))).bind fun v116 => if gC h r1 = 0 then bR (f_X1_most r1 v116 h) fun a117 g117 => (aI .int g117 r0 (x4 + (1 : Int32))).bind fun v118 => if gC g117 r2 = 4 then bR (f_X5_most r2 v118 g117) fun a119 g119 => if a117 = a119 then f_L_law_b1239 (f_L_law_L23 n) r0 r1 r2 r3 x4 g119 else some ((0 : Int32), g119) else none else none else if (v6 &&& (63 : Int32)) = (15 : Int32) then if gC h r1 = 0 then bR (f_X1_who r1  h) fun a122 g122 => if gC g122 r2 = 4 then bR (f_X5_who r2  g122) fun a123 g123 => if a122 = a123 then f_L_law_b1239 (f_L_law_L23 n) r0 r1 r2 r3 x4 g123 else some ((0 : Int32), g123) else none else none else if (v6 &&& (63 : Int32)) = (16 : Int32) then if gC h r1 = 0 then bR (f_X1_ask r1  h) fun a126 g126 => if gC g126 r2 = 4 then bR (f_X5_ask r2  g126) fun a127 g127 => if a126 = a127 then f_L_law_b1239 (f_L_law_L23 n) r0 r1 r2 r3 x4 g127 else some ((0 : Int32), g127) else none else none else if (v6 &&& (63 : Int32)) = (17 : Int32) then (aI .int h r0 (x4 + (1 : Int32))).bind fun v130 => if gC h r1 = 0 then bR (f_X1_serve r1 v130 h) fun a131 g131 => (aI .int g131 r0 (x4 + (1 : Int32))).bind fun v132 => if gC g131 r2 = 4 then bR (f_X5_serve r2 v132 g131) fun a133 g133 => if a131 = a133 then f_L_law_b1239 (f_L_law_L23 n) r0 r1 r2 r3 x4 g133 else some ((0 : Int32), g133) else none else none else if (v6 &&& (63 : Int32)) = (18 : Int32) then if gC h r1 = 0 then bR (f_X1_serving r1  h) fun a136 g136 => if gC g136 r2 = 4 then bR (f_X5_serving r2  g136) fun a137 g137 => if a136 = a137 then f_L_law_b1239 (f_L_law_L23 n) r0 r1 r2 r3 x4 g137 else some ((0 : Int32), g137) else none else none else if (v6 &&& (63 : Int32)) = (19 : Int32) then (aI .int h r0 (x4 + (1 : Int32))).bind fun v140 => (aI .int h r0 (x4 + (2 : Int32))).bind fun v141 => if gC h r1 = 0 then bR (f_X1_chain r1 v140 v141 h) fun a142 g142 => (aI .int g142 r0 (x4 + (1 : Int32))).bind fun v143 => (aI .int g142 r0 (x4 + (2 : Int32))).bind fun v144 => if gC g142 r2 = 4 then bR (f_X5_chain r2 v143 v144 g142) fun a145 g145 => if a142 = a145 then f_L_law_b1239 (f_L_law_L23 n) r0 r1 r2 r3 x4 g145 else some ((0 : Int32), g145) else none else none else if (v6 &&& (63 : Int32)) = (20 : Int32) then (aI .int h r0 (x4 + (1 : Int32))).bind fun v148 => if gC h r1 = 0 then bR (f_X1_chainAt r1 v148 h) fun a149 g149 => (aI .int g149 r0 (x4 + (1 : Int32))).bind fun v150 => if gC g149 r2 = 4 then bR (f_X5_chainAt r2 v150 g149) fun a151 g151 => if a149 = a151 then f_L_law_b1239 (f_L_law_L23 n) r0 r1 r2 r3 x4 g151 else some ((0 : Int32), g151) else none else none else if (v6 &&& (63 : Int32)) = (21 : Int32) then (aI .int h r0 (x4 + (1 : Int32))).bind fun v154 => if gC h r1 = 0 then bR (f_X1_out r1 v154 h) fun a155 g155 => (aI .int g155 r0 (x4 + (1 : Int32))).bind fun v156 => if gC g155 r2 = 4 then bR (f_X5_out r2 v156 g155) fun a157 g157 => if a155 = a157 then f_L_law_b1239 (f_L_law_L23 n) r0 r1 r2 r3 x4 g157 else some ((0 : Int32), g157) else none else none else if (v6 &&& (63 : Int32)) = (22 : Int32) then (aI .int h r0 (x4 + (1 : Int32))).bind fun v160 => (aI .int h r0 (x4 + (2 : Int32))).bind fun v161 => if gC h r1 = 0 then bR (f_X1_apart r1 v160 v161 h) fun a162 g162 => (aI .int g162 r0 (x4 + (1 : Int32))).bind fun v163 => (aI .int g162 r0 (x4 + (2 : Int32))).bind fun v164 => if gC g162 r2 = 4 then bR (f_X5_apart r2 v163 v164 g162) fun a165 g165 => if a162 = a165 then f_L_law_b1239 (f_L_law_L23 n) r0 r1 r2 r3 x4 g165 else some ((0 : Int32), g165) else none else none else if (v6 &&& (63 : Int32)) = (23 : Int32) then if gC h r1 = 0 then bR (f_X1_parting r1  h) fun a168 g168 => if gC g168 r2 = 4 then bR (f_X5_parting r2  g168) fun a169 g169 => if a168 = a169 then f_L_law_b1239 (f_L_law_L23 n) r0 r1 r2 r3 x4 g169 else some ((0 : Int32), g169) else none else none else if (v6 &&& (63 : Int32)) = (24 : Int32) then if gC h r1 = 0 then bR (f_X1_recluse r1  h) fun a172 g172 => if gC g172 r2 = 4 then bR (f_X5_recluse r2  g172) fun a173 g173 => if a172 = a173 then f_L_law_b1239 (f_L_law_L23 n) r0 r1 r2 r3 x4 g173 else some ((0 : Int32), g173) else none else none else if (v6 &&& (63 : Int32)) = (25 : Int32) then (aI .int h r0 (x4 + (1 : Int32))).bind fun v176 => if gC h r1 = 0 then bR (f_X1_face r1 v176 h) fun a177 g177 => (aI .int g177 r0 (x4 + (1 : Int32))).bind fun v178 => if gC g177 r2 = 4 then bR (f_X5_face r2 v178 g177) fun a179 g179 => if a177 = a179 then f_L_law_b1239 (f_L_law_L23 n) r0 r1 r2 r3 x4 g179 else some ((0 : Int32), g179) else none else none else if (v6 &&& (63 : Int32)) = (26 : Int32) then (aI .int h r0 (x4 + (1 : Int32))).bind fun v182 => if gC h r1 = 0 then bR (f_X1_byteAt r1 v182 h) fun a183 g183 => (aI .int g183 r0 (x4 + (1 : Int32))).bind fun v184 => if gC g183 r2 = 4 then bR (f_X5_byteAt r2 v184 g183) fun a185 g185 => if a183 = a185 then f_L_law_b1239 (f_L_law_L23 n) r0 r1 r2 r3 x4 g185 else some ((0 : Int32), g185) else none else none else if (v6 &&& (63 : Int32)) = (27 : Int32) then (aI .int h r0 (x4 + (1 : Int32))).bind fun v188 => (aI .int h r0 (x4 + (2 : Int32))).bind fun v189 => if gC h r1 = 0 then bR (f_X1_drawn r1 v188 v189 h) fun a190 g190 => (aI .int g190 r0 (x4 + (1 : Int32))).bind fun v191 => (aI .int g190 r0 (x4 + (2 : Int32))).bind fun v192 => if gC g190 r2 = 4 then bR (f_X5_drawn r2 v191 v192 g190) fun a193 g193 => if a190 = a193 then f_L_law_b1239 (f_L_law_L23 n) r0 r1 r2 r3 x4 g193 else some ((0 : Int32), g193) else none else none else if (v6 &&& (63 : Int32)) = (28 : Int32) then (aI .int h r0 (x4 + (1 : Int32))).bind fun v196 => (aI .int h r0 (x4 + (2 : Int32))).bind fun v197 => (aI .int h r0 (x4 + (3 : Int32))).bind fun v198 => if gC h r1 = 0 then bR (f_X1_odds r1 v196 v197 v198 h) fun a199 g199 => (aI .int g199 r0 (x4 + (1 : Int32))).bind fun v200 => (aI .int g199 r0 (x4 + (2 : Int32))).bind fun v201 => (aI .int g199 r0 (x4 + (3 : Int32))).bind fun v202 => if gC g199 r2 = 4 then bR (f_X5_odds r2 v200 v201 v202 g199) fun a203 g203 => if a199 = a203 then f_L_law_b1239 (f_L_law_L23 n) r0 r1 r2 r3 x4 g203 else some ((0 : Int32), g203) else none else none else if (v6 &&& (63 : Int32)) = (29 : Int32) then (aI .int h r0 (x4 + (1 : Int32))).bind fun v206 => if gC h r1 = 0 then bR (f_X1_book r1 v206 h) fun a207 g207 => (aI .int g207 r0 (x4 + (1 : Int32))).bind fun v208 => if gC g207 r2 = 4 then bR (f_X5_book r2 v208 g207) fun a209 g209 => if a207 = a209 then f_L_law_b1239 (f_L_law_L23 n) r0 r1 r2 r3 x4 g209 else some ((0 : Int32), g209) else none else none else if (v6 &&& (63 : Int32)) = (30 : Int32) then (aI .int h r0 (x4 + (1 : Int32))).bind fun v212 => if gC h r1 = 0 then bR (f_X1_told r1 v212 h) fun a213 g213 => (aI .int g213 r0 (x4 + (1 : Int32))).bind fun v214 => if gC g213 r2 = 4 then bR (f_X5_told r2 v214 g213) fun a215 g215 => if a213 = a215 then f_L_law_b1239 (f_L_law_L23 n) r0 r1 r2 r3 x4 g215 else some ((0 : Int32), g215) else none else none else if (v6 &&& (63 : Int32)) = (31 : Int32) then if gC h r1 = 0 then bR (f_X1_sentence r1  h) fun a218 g218 => if gC g218 r2 = 4 then bR (f_X5_sentence r2  g218) fun a219 g219 => if a218 = a219 then f_L_law_b1239 (f_L_law_L23 n) r0 r1 r2 r3 x4 g219 else some ((0 : Int32), g219) else none else none else if (v6 &&& (63 : Int32)) = (32 : Int32) then (aI .int h r0 (x4 + (1 : Int32))).bind fun v222 => if gC h r1 = 0 then bR (f_X1_said r1 v222 h) fun a223 g223 => (aI .int g223 r0 (x4 + (1 : Int32))).bind fun v224 => if gC g223 r2 = 4 then bR (f_X5_said r2 v224 g223) fun a225 g225 => if a223 = a225 then f_L_law_b1239 (f_L_law_L23 n) r0 r1 r2 r3 x4 g225 else some ((0 : Int32), g225) else none else none else if (v6 &&& (63 : Int32)) = (33 : Int32) then (aI .int h r0 (x4 + (1 : Int32))).bind fun v228 => if gC h r1 = 0 then bR (f_X1_image r1 v228 h) fun a229 g229 => (aI .int g229 r0 (x4 + (1 : Int32))).bind fun v230 => if gC g229 r2 = 4 then bR (f_X5_image r2 v230 g229) fun a231 g231 => if a229 = a231 then f_L_law_b1239 (f_L_law_L23 n) r0 r1 r2 r3 x4 g231 else some ((0 : Int32), g231) else none else none else if (v6 &&& (63 : Int32)) = (34 : Int32) then (aI .int h r0 (x4 + (1 : Int32))).bind fun v234 => if gC h r1 = 0 then bR (f_X1_restore r1 v234 h) fun a235 g235 => (aI .int g235 r0 (x4 + (1 : Int32))).bind fun v236 => if gC g235 r2 = 4 then bR (f_X5_restore r2 v236 g235) fun a237 g237 => if a235 = a237 then f_L_law_b1239 (f_L_law_L23 n) r0 r1 r2 r3 x4 g237 else some ((0 : Int32), g237) else none else none else if (v6 &&& (63 : Int32)) = (35 : Int32) then (aI .int h r0 (x4 + (1 : Int32))).bind fun v240 => if gC h r1 = 0 then bR (f_X1_count r1 v240 h) fun a241 g241 => (aI .int g241 r0 (x4 + (1 : Int32))).bind fun v242 => if gC g241 r2 = 4 then bR (f_X5_count r2 v242 g241) fun a243 g243 => if a241 = a243 then f_L_law_b1239 (f_L_law_L23 n) r0 r1 r2 r3 x4 g243 else some ((0 : Int32), g243) else none else none else f_L_law_b1239 (f_L_law_L23 n) r0 r1 r2 r3 x4 h
theorem t_L_law_L23 {G : xG} {C : xC} {o : Int32 × mH} (hE : xEndL G C o) : ∀ (n : Nat) (r0 : Nat) (r1 : Nat) (r2 : Nat) (r3 : Nat) (x4 : Int32) (h : mH), f_L_law_L23 n r0 r1 r2 r3 x4 h = some o → X G C mi_L_law 23 [(0, .ref r0), (1, .ref r1), (2, .ref r2), (3, .ref r3), (4, .int x4)] [] h := by
  intro n
  induction n with
  | zero => intro r0 r1 r2 r3 x4 h H; exact nomatch (show (none : Option (Int32 × mH)) = some o from H)
  | succ n ih =>
    intro r0 r1 r2 r3 x4 h H
    rw [f_L_law_L23] at H
    refine x_iload 4 rfl dL_law_23 ?_
    refine x_aload_n 0 rfl dL_law_25 ?_
    obtain ⟨v4, e4, H⟩ := ob H
    refine x_alen e4 dL_law_26 ?_
    refine x_bipush (6 : Int32) dL_law_27 bi_6 ?_
    refine x_isub dL_law_29 ?_
    refine x_icmp_gt 1245 dL_law_30 (by decide) (fun c5 => ?_) (fun c5 => ?_)
    · rw [if_pos c5] at H
      refine x_iconst (1 : Int32) dL_law_1245 ic_1 ?_
      obtain rfl := Option.some.inj H
      exact x_iretL hE rfl rfl dL_law_1246
    · rw [if_neg c5] at H
      refine x_aload_n 0 rfl dL_law_33 ?_
      refine x_iload 4 rfl dL_law_34 ?_
      obtain ⟨v6, e6, H⟩ := ob H
      refine x_iald e6 dL_law_36 ?_
      refine x_bipush (63 : Int32) dL_law_37 bi_63 ?_
      refine x_iand dL_law_39 ?_
      by_cases c7 : (v6 &&& (63 : Int32)) = (0 : Int32)
      · rw [if_pos c7] at H
        refine x_tsw (off := 160) 200 dL_law_40 c7 (by decide) (by decide) (by decide) (by decide) ?_
        refine x_aload_n 1 rfl dL_law_200 ?_
        refine x_aload_n 0 rfl dL_law_201 ?_
        refine x_iload 4 rfl dL_law_202 ?_
        refine x_iconst (1 : Int32) dL_law_204 ic_1 ?_
        refine x_iadd dL_law_205 ?_
        obtain ⟨v8, e8, H⟩ := ob H
        refine x_iald e8 dL_law_206 ?_
        refine x_aload_n 0 rfl dL_law_207 ?_
        refine x_iload 4 rfl dL_law_208 ?_
        refine x_iconst (2 : Int32) dL_law_210 ic_2 ?_
        refine x_iadd dL_law_211 ?_
        obtain ⟨v9, e9, H⟩ := ob H
        refine x_iald e9 dL_law_212 ?_
        refine x_aload_n 0 rfl dL_law_213 ?_
        refine x_iload 4 rfl dL_law_214 ?_
        refine x_iconst (3 : Int32) dL_law_216 ic_3 ?_
        refine x_iadd dL_law_217 ?_
        obtain ⟨v10, e10, H⟩ := ob H
        refine x_iald e10 dL_law_218 ?_
        refine x_aload_n 0 rfl dL_law_219 ?_
        refine x_iload 4 rfl dL_law_220 ?_
        refine x_iconst (4 : Int32) dL_law_222 ic_4 ?_
        refine x_iadd dL_law_223 ?_
        obtain ⟨v11, e11, H⟩ := ob H
        refine x_iald e11 dL_law_224 ?_
        refine x_aload_n 0 rfl dL_law_225 ?_
        refine x_iload 4 rfl dL_law_226 ?_
        refine x_iconst (5 : Int32) dL_law_228 ic_5 ?_
        refine x_iadd dL_law_229 ?_
        obtain ⟨v12, e12, H⟩ := ob H
        refine x_iald e12 dL_law_230 ?_
        obtain ⟨c13, H⟩ := oit H
        obtain ⟨a13, g13, e13, H⟩ := obR H
        refine x_callV (M' := mi_X1_feed) (n := 5) (As := [.int v8, .int v9, .int v10, .int v11, .int v12]) (t_X1_feed C _ e13) c13 rfl rfl md_X1_feed ⟨Nat.le_of_ble_eq_true rfl, Nat.le_of_ble_eq_true rfl⟩ q436 q437 q438 q120 q439 rfl (Nat.le_of_ble_eq_true rfl) dL_law_231 ?_
        refine x_aload_n 2 rfl dL_law_234 ?_
        refine x_aload_n 0 rfl dL_law_235 ?_
        refine x_iload 4 rfl dL_law_236 ?_
        refine x_iconst (1 : Int32) dL_law_238 ic_1 ?_
        refine x_iadd dL_law_239 ?_
        obtain ⟨v14, e14, H⟩ := ob H
        refine x_iald e14 dL_law_240 ?_
        refine x_aload_n 0 rfl dL_law_241 ?_
        refine x_iload 4 rfl dL_law_242 ?_
        refine x_iconst (2 : Int32) dL_law_244 ic_2 ?_
        refine x_iadd dL_law_245 ?_
        obtain ⟨v15, e15, H⟩ := ob H
        refine x_iald e15 dL_law_246 ?_
        refine x_aload_n 0 rfl dL_law_247 ?_
        refine x_iload 4 rfl dL_law_248 ?_
        refine x_iconst (3 : Int32) dL_law_250 ic_3 ?_
        refine x_iadd dL_law_251 ?_
        obtain ⟨v16, e16, H⟩ := ob H
        refine x_iald e16 dL_law_252 ?_
        refine x_aload_n 0 rfl dL_law_253 ?_
        refine x_iload 4 rfl dL_law_254 ?_
        refine x_iconst (4 : Int32) dL_law_256 ic_4 ?_
        refine x_iadd dL_law_257 ?_
        obtain ⟨v17, e17, H⟩ := ob H
        refine x_iald e17 dL_law_258 ?_
        refine x_aload_n 0 rfl dL_law_259 ?_
        refine x_iload 4 rfl dL_law_260 ?_
        refine x_iconst (5 : Int32) dL_law_262 ic_5 ?_
        refine x_iadd dL_law_263 ?_
        obtain ⟨v18, e18, H⟩ := ob H
        refine x_iald e18 dL_law_264 ?_
        obtain ⟨c19, H⟩ := oit H
        obtain ⟨a19, g19, e19, H⟩ := obR H
        refine x_callV (M' := mi_X5_feed) (n := 5) (As := [.int v14, .int v15, .int v16, .int v17, .int v18]) (t_X5_feed C _ e19) c19 rfl rfl md_X5_feed ⟨Nat.le_of_ble_eq_true rfl, Nat.le_of_ble_eq_true rfl⟩ q1887 q1888 q1889 q131 q1890 rfl (Nat.le_of_ble_eq_true rfl) dL_law_265 ?_
        refine x_icmp_eq 1239 dL_law_268 (by decide) (fun c20 => ?_) (fun c20 => ?_)
        · rw [if_pos c20] at H
          exact t_L_law_b1239 hE ih _ _ _ _ _ _ H
        · rw [if_neg c20] at H
          refine x_iconst (0 : Int32) dL_law_271 ic_0 ?_
          obtain rfl := Option.some.inj H
          exact x_iretL hE rfl rfl dL_law_272
      rw [if_neg c7] at H
      by_cases c21 : (v6 &&& (63 : Int32)) = (1 : Int32)
      · rw [if_pos c21] at H
        refine x_tsw (off := 233) 273 dL_law_40 c21 (by decide) (by decide) (by decide) (by decide) ?_
        refine x_aload_n 1 rfl dL_law_273 ?_
        refine x_aload_n 0 rfl dL_law_274 ?_
        refine x_iload 4 rfl dL_law_275 ?_
        refine x_iconst (1 : Int32) dL_law_277 ic_1 ?_
        refine x_iadd dL_law_278 ?_
        obtain ⟨v22, e22, H⟩ := ob H
        refine x_iald e22 dL_law_279 ?_
        obtain ⟨c23, H⟩ := oit H
        obtain ⟨a23, g23, e23, H⟩ := obR H
        refine x_callV (M' := mi_X1_end) (n := 1) (As := [.int v22]) (t_X1_end C _ e23) c23 rfl rfl md_X1_end ⟨Nat.le_of_ble_eq_true rfl, Nat.le_of_ble_eq_true rfl⟩ q444 q445 q446 q120 q447 rfl (Nat.le_of_ble_eq_true rfl) dL_law_280 ?_
        refine x_aload_n 2 rfl dL_law_283 ?_
        refine x_aload_n 0 rfl dL_law_284 ?_
        refine x_iload 4 rfl dL_law_285 ?_
        refine x_iconst (1 : Int32) dL_law_287 ic_1 ?_
        refine x_iadd dL_law_288 ?_
        obtain ⟨v24, e24, H⟩ := ob H
        refine x_iald e24 dL_law_289 ?_
        obtain ⟨c25, H⟩ := oit H
        obtain ⟨a25, g25, e25, H⟩ := obR H
        refine x_callV (M' := mi_X5_end) (n := 1) (As := [.int v24]) (t_X5_end C _ e25) c25 rfl rfl md_X5_end ⟨Nat.le_of_ble_eq_true rfl, Nat.le_of_ble_eq_true rfl⟩ q1896 q1897 q1898 q131 q1899 rfl (Nat.le_of_ble_eq_true rfl) dL_law_290 ?_
        refine x_icmp_eq 1239 dL_law_293 (by decide) (fun c26 => ?_) (fun c26 => ?_)
        · rw [if_pos c26] at H
          exact t_L_law_b1239 hE ih _ _ _ _ _ _ H
        · rw [if_neg c26] at H
          refine x_iconst (0 : Int32) dL_law_296 ic_0 ?_
          obtain rfl := Option.some.inj H
          exact x_iretL hE rfl rfl dL_law_297
      rw [if_neg c21] at H
      by_cases c27 : (v6 &&& (63 : Int32)) = (2 : Int32)
      · rw [if_pos c27] at H
        refine x_tsw (off := 258) 298 dL_law_40 c27 (by decide) (by decide) (by decide) (by decide) ?_
        refine x_aload_n 1 rfl dL_law_298 ?_
        obtain ⟨c28, H⟩ := oit H
        obtain ⟨a28, g28, e28, H⟩ := obR H
        refine x_callVX (hh := [(10, 58, 59, 119)]) (M' := mi_X1_county) (n := 0) (As := []) (t_X1_county C _ e28) c28 rfl rfl md_X1_county ⟨Nat.le_of_ble_eq_true rfl, Nat.le_of_ble_eq_true rfl⟩ q448 q449 q450 q120 q451 rfl (Nat.le_of_ble_eq_true rfl) dL_law_299 ?_
        refine x_aload_n 2 rfl dL_law_302 ?_
        obtain ⟨c29, H⟩ := oit H
        obtain ⟨a29, g29, e29, H⟩ := obR H
        refine x_callV (M' := mi_X5_county) (n := 0) (As := []) (t_X5_county C _ e29) c29 rfl rfl md_X5_county ⟨Nat.le_of_ble_eq_true rfl, Nat.le_of_ble_eq_true rfl⟩ q2092 q2093 q2094 q131 q2095 rfl (Nat.le_of_ble_eq_true rfl) dL_law_303 ?_
        refine x_icmp_eq 1239 dL_law_306 (by decide) (fun c30 => ?_) (fun c30 => ?_)
        · rw [if_pos c30] at H
          exact t_L_law_b1239 hE ih _ _ _ _ _ _ H
        · rw [if_neg c30] at H
          refine x_iconst (0 : Int32) dL_law_309 ic_0 ?_
          obtain rfl := Option.some.inj H
          exact x_iretL hE rfl rfl dL_law_310
      rw [if_neg c27] at H
      by_cases c31 : (v6 &&& (63 : Int32)) = (3 : Int32)
      · rw [if_pos c31] at H
        refine x_tsw (off := 271) 311 dL_law_40 c31 (by decide) (by decide) (by decide) (by decide) ?_
        refine x_aload_n 1 rfl dL_law_311 ?_
        obtain ⟨c32, H⟩ := oit H
        obtain ⟨a32, g32, e32, H⟩ := obR H
        refine x_callV (M' := mi_X1_fault) (n := 0) (As := []) (t_X1_fault C _ e32) c32 rfl rfl md_X1_fault ⟨Nat.le_of_ble_eq_true rfl, Nat.le_of_ble_eq_true rfl⟩ q1100 q1101 q1102 q120 q1103 rfl (Nat.le_of_ble_eq_true rfl) dL_law_312 ?_
        refine x_aload_n 2 rfl dL_law_315 ?_
        obtain ⟨c33, H⟩ := oit H
        obtain ⟨a33, g33, e33, H⟩ := obR H
        refine x_callV (M' := mi_X5_fault) (n := 0) (As := []) (t_X5_fault C _ e33) c33 rfl rfl md_X5_fault ⟨Nat.le_of_ble_eq_true rfl, Nat.le_of_ble_eq_true rfl⟩ q2192 q2193 q2194 q131 q2195 rfl (Nat.le_of_ble_eq_true rfl) dL_law_316 ?_
        refine x_icmp_eq 1239 dL_law_319 (by decide) (fun c34 => ?_) (fun c34 => ?_)
        · rw [if_pos c34] at H
          exact t_L_law_b1239 hE ih _ _ _ _ _ _ H
        · rw [if_neg c34] at H
          refine x_iconst (0 : Int32) dL_law_322 ic_0 ?_
          obtain rfl := Option.some.inj H
          exact x_iretL hE rfl rfl dL_law_323
      rw [if_neg c31] at H
      by_cases c35 : (v6 &&& (63 : Int32)) = (4 : Int32)
      · rw [if_pos c35] at H
        refine x_tsw (off := 284) 324 dL_law_40 c35 (by decide) (by decide) (by decide) (by decide) ?_
        refine x_aload_n 1 rfl dL_law_324 ?_
        refine x_aload_n 0 rfl dL_law_325 ?_
        refine x_iload 4 rfl dL_law_326 ?_
        refine x_iconst (1 : Int32) dL_law_328 ic_1 ?_
        refine x_iadd dL_law_329 ?_
        obtain ⟨v36, e36, H⟩ := ob H
        refine x_iald e36 dL_law_330 ?_
        refine x_aload_n 0 rfl dL_law_331 ?_
        refine x_iload 4 rfl dL_law_332 ?_
        refine x_iconst (2 : Int32) dL_law_334 ic_2 ?_
        refine x_iadd dL_law_335 ?_
        obtain ⟨v37, e37, H⟩ := ob H
        refine x_iald e37 dL_law_336 ?_
        refine x_aload_n 3 rfl dL_law_337 ?_
        obtain ⟨a38, g38, e38, H⟩ := obR H
        refine x_callSX (hh := [(0, 10, 13, 13)]) (M' := mi_X0_person) (n := 4) (As := [.ref r1, .int v36, .int v37, .ref r3]) (t_X0_person C _ e38) md_X0_person ⟨Nat.le_of_ble_eq_true rfl, Nat.le_of_ble_eq_true rfl⟩ q1849 q1850 q119 q1851 rfl (Nat.le_of_ble_eq_true rfl) dL_law_338 ?_
        refine x_istore [1, 2, 3, 4, 5, 0] dL_law_341 (by decide) rfl ?_
        refine x_aload_n 2 rfl dL_law_343 ?_
        refine x_aload_n 0 rfl dL_law_344 ?_
        refine x_iload 4 rfl dL_law_345 ?_
        refine x_iconst (1 : Int32) dL_law_347 ic_1 ?_
        refine x_iadd dL_law_348 ?_
        obtain ⟨v39, e39, H⟩ := ob H
        refine x_iald e39 dL_law_349 ?_
        refine x_aload_n 0 rfl dL_law_350 ?_
        refine x_iload 4 rfl dL_law_351 ?_
        refine x_iconst (2 : Int32) dL_law_353 ic_2 ?_
        refine x_iadd dL_law_354 ?_
        obtain ⟨v40, e40, H⟩ := ob H
        refine x_iald e40 dL_law_355 ?_
        obtain ⟨c41, H⟩ := oit H
        obtain ⟨a41, g41, e41, H⟩ := obR H
        refine x_callV (M' := mi_X5_person) (n := 2) (As := [.int v39, .int v40]) (t_X5_person C _ e41) c41 rfl rfl md_X5_person ⟨Nat.le_of_ble_eq_true rfl, Nat.le_of_ble_eq_true rfl⟩ q2196 q2197 q2198 q131 q2199 rfl (Nat.le_of_ble_eq_true rfl) dL_law_356 ?_
        refine x_istore [1, 2, 3, 4, 5, 6, 0] dL_law_359 (by decide) rfl ?_
        refine x_aload_n 2 rfl dL_law_361 ?_
        obtain ⟨c42, H⟩ := oit H
        obtain ⟨a42, g42, e42, H⟩ := obR H
        refine x_callV (M' := mi_X5_thrown) (n := 0) (As := []) (t_X5_thrown C _ e42) c42 rfl rfl md_X5_thrown ⟨Nat.le_of_ble_eq_true rfl, Nat.le_of_ble_eq_true rfl⟩ q1883 q1884 q1885 q131 q1886 rfl (Nat.le_of_ble_eq_true rfl) dL_law_362 ?_
        refine x_iload 5 rfl dL_law_365 ?_
        refine x_icmp_eq 372 dL_law_367 (by decide) (fun c43 => ?_) (fun c43 => ?_)
        · rw [if_pos c43] at H
          refine x_iload 5 rfl dL_law_372 ?_
          refine x_if_ne 389 dL_law_374 (by decide) (fun c44 => ?_) (fun c44 => ?_)
          · rw [if_neg c44] at H
            refine X.sub [0, 1, 2, 3, 4] rfl ?_
            exact t_L_law_b389 hE ih _ _ _ _ _ _ H
          · rw [if_pos c44] at H
            refine x_aload_n 3 rfl dL_law_377 ?_
            refine x_iconst (0 : Int32) dL_law_378 ic_0 ?_
            obtain ⟨v45, e45, H⟩ := ob H
            refine x_lald e45 dL_law_379 ?_
            refine x_iload 6 rfl dL_law_380 ?_
            refine x_i2l dL_law_382 ?_
            refine x_lcmp dL_law_383 ?_
            refine x_if_eq 389 dL_law_384 (by decide) (fun c46 => ?_) (fun c46 => ?_)
            · rw [if_pos c46] at H
              refine X.sub [0, 1, 2, 3, 4] rfl ?_
              exact t_L_law_b389 hE ih _ _ _ _ _ _ H
            · rw [if_neg c46] at H
              refine x_iconst (0 : Int32) dL_law_387 ic_0 ?_
              obtain rfl := Option.some.inj H
              exact x_iretL hE rfl rfl dL_law_388
        · rw [if_neg c43] at H
          refine x_iconst (0 : Int32) dL_law_370 ic_0 ?_
          obtain rfl := Option.some.inj H
          exact x_iretL hE rfl rfl dL_law_371
      rw [if_neg c35] at H
      by_cases c47 : (v6 &&& (63 : Int32)) = (5 : Int32)
      · rw [if_pos c47] at H
        refine x_tsw (off := 352) 392 dL_law_40 c47 (by decide) (by decide) (by decide) (by decide) ?_
        refine x_aload_n 1 rfl dL_law_392 ?_
        refine x_aload_n 0 rfl dL_law_393 ?_
        refine x_iload 4 rfl dL_law_394 ?_
        refine x_iconst (1 : Int32) dL_law_396 ic_1 ?_
        refine x_iadd dL_law_397 ?_
        obtain ⟨v48, e48, H⟩ := ob H
        refine x_iald e48 dL_law_398 ?_
        refine x_aload_n 0 rfl dL_law_399 ?_
        refine x_iload 4 rfl dL_law_400 ?_
        refine x_iconst (2 : Int32) dL_law_402 ic_2 ?_
        refine x_iadd dL_law_403 ?_
        obtain ⟨v49, e49, H⟩ := ob H
        refine x_iald e49 dL_law_404 ?_
        refine x_aload_n 0 rfl dL_law_405 ?_
        refine x_iload 4 rfl dL_law_406 ?_
        refine x_iconst (3 : Int32) dL_law_408 ic_3 ?_
        refine x_iadd dL_law_409 ?_
        obtain ⟨v50, e50, H⟩ := ob H
        refine x_iald e50 dL_law_410 ?_
        obtain ⟨c51, H⟩ := oit H
        obtain ⟨a51, g51, e51, H⟩ := obR H
        refine x_callV (M' := mi_X1_good) (n := 3) (As := [.int v48, .int v49, .int v50]) (t_X1_good C _ e51) c51 rfl rfl md_X1_good ⟨Nat.le_of_ble_eq_true rfl, Nat.le_of_ble_eq_true rfl⟩ q1104 q1105 q1106 q120 q1107 rfl (Nat.le_of_ble_eq_true rfl) dL_law_411 ?_
        refine x_aload_n 2 rfl dL_law_414 ?_
        refine x_aload_n 0 rfl dL_law_415 ?_
        refine x_iload 4 rfl dL_law_416 ?_
        refine x_iconst (1 : Int32) dL_law_418 ic_1 ?_
        refine x_iadd dL_law_419 ?_
        obtain ⟨v52, e52, H⟩ := ob H
        refine x_iald e52 dL_law_420 ?_
        refine x_aload_n 0 rfl dL_law_421 ?_
        refine x_iload 4 rfl dL_law_422 ?_
        refine x_iconst (2 : Int32) dL_law_424 ic_2 ?_
        refine x_iadd dL_law_425 ?_
        obtain ⟨v53, e53, H⟩ := ob H
        refine x_iald e53 dL_law_426 ?_
        refine x_aload_n 0 rfl dL_law_427 ?_
        refine x_iload 4 rfl dL_law_428 ?_
        refine x_iconst (3 : Int32) dL_law_430 ic_3 ?_
        refine x_iadd dL_law_431 ?_
        obtain ⟨v54, e54, H⟩ := ob H
        refine x_iald e54 dL_law_432 ?_
        obtain ⟨c55, H⟩ := oit H
        obtain ⟨a55, g55, e55, H⟩ := obR H
        refine x_callV (M' := mi_X5_good) (n := 3) (As := [.int v52, .int v53, .int v54]) (t_X5_good C _ e55) c55 rfl rfl md_X5_good ⟨Nat.le_of_ble_eq_true rfl, Nat.le_of_ble_eq_true rfl⟩ q2220 q2221 q2222 q131 q2223 rfl (Nat.le_of_ble_eq_true rfl) dL_law_433 ?_
        refine x_icmp_eq 1239 dL_law_436 (by decide) (fun c56 => ?_) (fun c56 => ?_)
        · rw [if_pos c56] at H
          exact t_L_law_b1239 hE ih _ _ _ _ _ _ H
        · rw [if_neg c56] at H
          refine x_iconst (0 : Int32) dL_law_439 ic_0 ?_
          obtain rfl := Option.some.inj H
          exact x_iretL hE rfl rfl dL_law_440
      rw [if_neg c47] at H
      by_cases c57 : (v6 &&& (63 : Int32)) = (6 : Int32)
      · rw [if_pos c57] at H
        refine x_tsw (off := 401) 441 dL_law_40 c57 (by decide) (by decide) (by decide) (by decide) ?_
        refine x_aload_n 1 rfl dL_law_441 ?_
        refine x_aload_n 0 rfl dL_law_442 ?_
        refine x_iload 4 rfl dL_law_443 ?_
        refine x_iconst (1 : Int32) dL_law_445 ic_1 ?_
        refine x_iadd dL_law_446 ?_
        obtain ⟨v58, e58, H⟩ := ob H
        refine x_iald e58 dL_law_447 ?_
        refine x_aload_n 0 rfl dL_law_448 ?_
        refine x_iload 4 rfl dL_law_449 ?_
        refine x_iconst (2 : Int32) dL_law_451 ic_2 ?_
        refine x_iadd dL_law_452 ?_
        obtain ⟨v59, e59, H⟩ := ob H
        refine x_iald e59 dL_law_453 ?_
        obtain ⟨c60, H⟩ := oit H
        obtain ⟨a60, g60, e60, H⟩ := obR H
        refine x_callV (M' := mi_X1_deals) (n := 2) (As := [.int v58, .int v59]) (t_X1_deals C _ e60) c60 rfl rfl md_X1_deals ⟨Nat.le_of_ble_eq_true rfl, Nat.le_of_ble_eq_true rfl⟩ q1128 q1129 q1130 q120 q1131 rfl (Nat.le_of_ble_eq_true rfl) dL_law_454 ?_
        refine x_aload_n 2 rfl dL_law_457 ?_
        refine x_aload_n 0 rfl dL_law_458 ?_
        refine x_iload 4 rfl dL_law_459 ?_
        refine x_iconst (1 : Int32) dL_law_461 ic_1 ?_
        refine x_iadd dL_law_462 ?_
        obtain ⟨v61, e61, H⟩ := ob H
        refine x_iald e61 dL_law_463 ?_
        refine x_aload_n 0 rfl dL_law_464 ?_
        refine x_iload 4 rfl dL_law_465 ?_
        refine x_iconst (2 : Int32) dL_law_467 ic_2 ?_
        refine x_iadd dL_law_468 ?_
        obtain ⟨v62, e62, H⟩ := ob H
        refine x_iald e62 dL_law_469 ?_
        obtain ⟨c63, H⟩ := oit H
        obtain ⟨a63, g63, e63, H⟩ := obR H
        refine x_callV (M' := mi_X5_deals) (n := 2) (As := [.int v61, .int v62]) (t_X5_deals C _ e63) c63 rfl rfl md_X5_deals ⟨Nat.le_of_ble_eq_true rfl, Nat.le_of_ble_eq_true rfl⟩ q2228 q2229 q2230 q131 q2231 rfl (Nat.le_of_ble_eq_true rfl) dL_law_470 ?_
        refine x_icmp_eq 1239 dL_law_473 (by decide) (fun c64 => ?_) (fun c64 => ?_)
        · rw [if_pos c64] at H
          exact t_L_law_b1239 hE ih _ _ _ _ _ _ H
        · rw [if_neg c64] at H
          refine x_iconst (0 : Int32) dL_law_476 ic_0 ?_
          obtain rfl := Option.some.inj H
          exact x_iretL hE rfl rfl dL_law_477
      rw [if_neg c57] at H
      by_cases c65 : (v6 &&& (63 : Int32)) = (7 : Int32)
      · rw [if_pos c65] at H
        refine x_tsw (off := 438) 478 dL_law_40 c65 (by decide) (by decide) (by decide) (by decide) ?_
        refine x_aload_n 1 rfl dL_law_478 ?_
        refine x_aload_n 0 rfl dL_law_479 ?_
        refine x_iload 4 rfl dL_law_480 ?_
        refine x_iconst (1 : Int32) dL_law_482 ic_1 ?_
        refine x_iadd dL_law_483 ?_
        obtain ⟨v66, e66, H⟩ := ob H
        refine x_iald e66 dL_law_484 ?_
        obtain ⟨c67, H⟩ := oit H
        obtain ⟨a67, g67, e67, H⟩ := obR H
        refine x_callV (M' := mi_X1_now) (n := 1) (As := [.int v66]) (t_X1_now C _ e67) c67 rfl rfl md_X1_now ⟨Nat.le_of_ble_eq_true rfl, Nat.le_of_ble_eq_true rfl⟩ q1132 q1133 q1134 q120 q1135 rfl (Nat.le_of_ble_eq_true rfl) dL_law_485 ?_
        refine x_aload_n 2 rfl dL_law_488 ?_
        refine x_aload_n 0 rfl dL_law_489 ?_
        refine x_iload 4 rfl dL_law_490 ?_
        refine x_iconst (1 : Int32) dL_law_492 ic_1 ?_
        refine x_iadd dL_law_493 ?_
        obtain ⟨v68, e68, H⟩ := ob H
        refine x_iald e68 dL_law_494 ?_
        obtain ⟨c69, H⟩ := oit H
        obtain ⟨a69, g69, e69, H⟩ := obR H
        refine x_callV (M' := mi_X5_now) (n := 1) (As := [.int v68]) (t_X5_now C _ e69) c69 rfl rfl md_X5_now ⟨Nat.le_of_ble_eq_true rfl, Nat.le_of_ble_eq_true rfl⟩ q2232 q2233 q2234 q131 q2235 rfl (Nat.le_of_ble_eq_true rfl) dL_law_495 ?_
        refine x_icmp_eq 1239 dL_law_498 (by decide) (fun c70 => ?_) (fun c70 => ?_)
        · rw [if_pos c70] at H
          exact t_L_law_b1239 hE ih _ _ _ _ _ _ H
        · rw [if_neg c70] at H
          refine x_iconst (0 : Int32) dL_law_501 ic_0 ?_
          obtain rfl := Option.some.inj H
          exact x_iretL hE rfl rfl dL_law_502
      rw [if_neg c65] at H
      by_cases c71 : (v6 &&& (63 : Int32)) = (8 : Int32)
      · rw [if_pos c71] at H
        refine x_tsw (off := 463) 503 dL_law_40 c71 (by decide) (by decide) (by decide) (by decide) ?_
        refine x_aload_n 1 rfl dL_law_503 ?_
        refine x_aload_n 0 rfl dL_law_504 ?_
        refine x_iload 4 rfl dL_law_505 ?_
        refine x_iconst (1 : Int32) dL_law_507 ic_1 ?_
        refine x_iadd dL_law_508 ?_
        obtain ⟨v72, e72, H⟩ := ob H
        refine x_iald e72 dL_law_509 ?_
        refine x_aload_n 0 rfl dL_law_510 ?_
        refine x_iload 4 rfl dL_law_511 ?_
        refine x_iconst (2 : Int32) dL_law_513 ic_2 ?_
        refine x_iadd dL_law_514 ?_
        obtain ⟨v73, e73, H⟩ := ob H
        refine x_iald e73 dL_law_515 ?_
        refine x_aload_n 0 rfl dL_law_516 ?_
        refine x_iload 4 rfl dL_law_517 ?_
        refine x_iconst (3 : Int32) dL_law_519 ic_3 ?_
        refine x_iadd dL_law_520 ?_
        obtain ⟨v74, e74, H⟩ := ob H
        refine x_iald e74 dL_law_521 ?_
        obtain ⟨c75, H⟩ := oit H
        obtain ⟨a75, g75, e75, H⟩ := obR H
        refine x_callV (M' := mi_X1_buy) (n := 3) (As := [.int v72, .int v73, .int v74]) (t_X1_buy C _ e75) c75 rfl rfl md_X1_buy ⟨Nat.le_of_ble_eq_true rfl, Nat.le_of_ble_eq_true rfl⟩ q1165 q1166 q1167 q120 q1168 rfl (Nat.le_of_ble_eq_true rfl) dL_law_522 ?_
        refine x_aload_n 2 rfl dL_law_525 ?_
        refine x_aload_n 0 rfl dL_law_526 ?_
        refine x_iload 4 rfl dL_law_527 ?_
        refine x_iconst (1 : Int32) dL_law_529 ic_1 ?_
        refine x_iadd dL_law_530 ?_
        obtain ⟨v76, e76, H⟩ := ob H
        refine x_iald e76 dL_law_531 ?_
        refine x_aload_n 0 rfl dL_law_532 ?_
        refine x_iload 4 rfl dL_law_533 ?_
        refine x_iconst (2 : Int32) dL_law_535 ic_2 ?_
        refine x_iadd dL_law_536 ?_
        obtain ⟨v77, e77, H⟩ := ob H
        refine x_iald e77 dL_law_537 ?_
        refine x_aload_n 0 rfl dL_law_538 ?_
        refine x_iload 4 rfl dL_law_539 ?_
        refine x_iconst (3 : Int32) dL_law_541 ic_3 ?_
        refine x_iadd dL_law_542 ?_
        obtain ⟨v78, e78, H⟩ := ob H
        refine x_iald e78 dL_law_543 ?_
        obtain ⟨c79, H⟩ := oit H
        obtain ⟨a79, g79, e79, H⟩ := obR H
        refine x_callV (M' := mi_X5_buy) (n := 3) (As := [.int v76, .int v77, .int v78]) (t_X5_buy C _ e79) c79 rfl rfl md_X5_buy ⟨Nat.le_of_ble_eq_true rfl, Nat.le_of_ble_eq_true rfl⟩ q2243 q2244 q2245 q131 q2246 rfl (Nat.le_of_ble_eq_true rfl) dL_law_544 ?_
        refine x_icmp_eq 1239 dL_law_547 (by decide) (fun c80 => ?_) (fun c80 => ?_)
        · rw [if_pos c80] at H
          exact t_L_law_b1239 hE ih _ _ _ _ _ _ H
        · rw [if_neg c80] at H
          refine x_iconst (0 : Int32) dL_law_550 ic_0 ?_
          obtain rfl := Option.some.inj H
          exact x_iretL hE rfl rfl dL_law_551
      rw [if_neg c71] at H
      by_cases c81 : (v6 &&& (63 : Int32)) = (9 : Int32)
      · rw [if_pos c81] at H
        refine x_tsw (off := 512) 552 dL_law_40 c81 (by decide) (by decide) (by decide) (by decide) ?_
        refine x_aload_n 1 rfl dL_law_552 ?_
        refine x_aload_n 0 rfl dL_law_553 ?_
        refine x_iload 4 rfl dL_law_554 ?_
        refine x_iconst (1 : Int32) dL_law_556 ic_1 ?_
        refine x_iadd dL_law_557 ?_
        obtain ⟨v82, e82, H⟩ := ob H
        refine x_iald e82 dL_law_558 ?_
        refine x_aload_n 0 rfl dL_law_559 ?_
        refine x_iload 4 rfl dL_law_560 ?_
        refine x_iconst (2 : Int32) dL_law_562 ic_2 ?_
        refine x_iadd dL_law_563 ?_
        obtain ⟨v83, e83, H⟩ := ob H
        refine x_iald e83 dL_law_564 ?_
        obtain ⟨c84, H⟩ := oit H
        obtain ⟨a84, g84, e84, H⟩ := obR H
        refine x_callV (M' := mi_X1_nod) (n := 2) (As := [.int v82, .int v83]) (t_X1_nod C _ e84) c84 rfl rfl md_X1_nod ⟨Nat.le_of_ble_eq_true rfl, Nat.le_of_ble_eq_true rfl⟩ q1318 q1319 q1320 q120 q1321 rfl (Nat.le_of_ble_eq_true rfl) dL_law_565 ?_
        refine x_aload_n 2 rfl dL_law_568 ?_
        refine x_aload_n 0 rfl dL_law_569 ?_
        refine x_iload 4 rfl dL_law_570 ?_
        refine x_iconst (1 : Int32) dL_law_572 ic_1 ?_
        refine x_iadd dL_law_573 ?_
        obtain ⟨v85, e85, H⟩ := ob H
        refine x_iald e85 dL_law_574 ?_
        refine x_aload_n 0 rfl dL_law_575 ?_
        refine x_iload 4 rfl dL_law_576 ?_
        refine x_iconst (2 : Int32) dL_law_578 ic_2 ?_
        refine x_iadd dL_law_579 ?_
        obtain ⟨v86, e86, H⟩ := ob H
        refine x_iald e86 dL_law_580 ?_
        obtain ⟨c87, H⟩ := oit H
        obtain ⟨a87, g87, e87, H⟩ := obR H
        refine x_callV (M' := mi_X5_nod) (n := 2) (As := [.int v85, .int v86]) (t_X5_nod C _ e87) c87 rfl rfl md_X5_nod ⟨Nat.le_of_ble_eq_true rfl, Nat.le_of_ble_eq_true rfl⟩ q2271 q2272 q2273 q131 q2274 rfl (Nat.le_of_ble_eq_true rfl) dL_law_581 ?_
        refine x_icmp_eq 1239 dL_law_584 (by decide) (fun c88 => ?_) (fun c88 => ?_)
        · rw [if_pos c88] at H
          exact t_L_law_b1239 hE ih _ _ _ _ _ _ H
        · rw [if_neg c88] at H
          refine x_iconst (0 : Int32) dL_law_587 ic_0 ?_
          obtain rfl := Option.some.inj H
          exact x_iretL hE rfl rfl dL_law_588
      rw [if_neg c81] at H
      by_cases c89 : (v6 &&& (63 : Int32)) = (10 : Int32)
      · rw [if_pos c89] at H
        refine x_tsw (off := 549) 589 dL_law_40 c89 (by decide) (by decide) (by decide) (by decide) ?_
        refine x_aload_n 1 rfl dL_law_589 ?_
        refine x_aload_n 0 rfl dL_law_590 ?_
        refine x_iload 4 rfl dL_law_591 ?_
        refine x_iconst (1 : Int32) dL_law_593 ic_1 ?_
        refine x_iadd dL_law_594 ?_
        obtain ⟨v90, e90, H⟩ := ob H
        refine x_iald e90 dL_law_595 ?_
        obtain ⟨c91, H⟩ := oit H
        obtain ⟨a91, g91, e91, H⟩ := obR H
        refine x_callV (M' := mi_X1_veil) (n := 1) (As := [.int v90]) (t_X1_veil C _ e91) c91 rfl rfl md_X1_veil ⟨Nat.le_of_ble_eq_true rfl, Nat.le_of_ble_eq_true rfl⟩ q1331 q1332 q1333 q120 q1334 rfl (Nat.le_of_ble_eq_true rfl) dL_law_596 ?_
        refine x_aload_n 2 rfl dL_law_599 ?_
        refine x_aload_n 0 rfl dL_law_600 ?_
        refine x_iload 4 rfl dL_law_601 ?_
        refine x_iconst (1 : Int32) dL_law_603 ic_1 ?_
        refine x_iadd dL_law_604 ?_
        obtain ⟨v92, e92, H⟩ := ob H
        refine x_iald e92 dL_law_605 ?_
        obtain ⟨c93, H⟩ := oit H
        obtain ⟨a93, g93, e93, H⟩ := obR H
        refine x_callV (M' := mi_X5_veil) (n := 1) (As := [.int v92]) (t_X5_veil C _ e93) c93 rfl rfl md_X5_veil ⟨Nat.le_of_ble_eq_true rfl, Nat.le_of_ble_eq_true rfl⟩ q2283 q2284 q2285 q131 q2286 rfl (Nat.le_of_ble_eq_true rfl) dL_law_606 ?_
        refine x_icmp_eq 1239 dL_law_609 (by decide) (fun c94 => ?_) (fun c94 => ?_)
        · rw [if_pos c94] at H
          exact t_L_law_b1239 hE ih _ _ _ _ _ _ H
        · rw [if_neg c94] at H
          refine x_iconst (0 : Int32) dL_law_612 ic_0 ?_
          obtain rfl := Option.some.inj H
          exact x_iretL hE rfl rfl dL_law_613
      rw [if_neg c89] at H
      by_cases c95 : (v6 &&& (63 : Int32)) = (11 : Int32)
      · rw [if_pos c95] at H
        refine x_tsw (off := 574) 614 dL_law_40 c95 (by decide) (by decide) (by decide) (by decide) ?_
        refine x_aload_n 1 rfl dL_law_614 ?_
        refine x_aload_n 0 rfl dL_law_615 ?_
        refine x_iload 4 rfl dL_law_616 ?_
        refine x_iconst (1 : Int32) dL_law_618 ic_1 ?_
        refine x_iadd dL_law_619 ?_
        obtain ⟨v96, e96, H⟩ := ob H
        refine x_iald e96 dL_law_620 ?_
        refine x_aload_n 0 rfl dL_law_621 ?_
        refine x_iload 4 rfl dL_law_622 ?_
        refine x_iconst (2 : Int32) dL_law_624 ic_2 ?_
        refine x_iadd dL_law_625 ?_
        obtain ⟨v97, e97, H⟩ := ob H
        refine x_iald e97 dL_law_626 ?_
        refine x_aload_n 0 rfl dL_law_627 ?_
        refine x_iload 4 rfl dL_law_628 ?_
        refine x_iconst (3 : Int32) dL_law_630 ic_3 ?_
        refine x_iadd dL_law_631 ?_
        obtain ⟨v98, e98, H⟩ := ob H
        refine x_iald e98 dL_law_632 ?_
        obtain ⟨c99, H⟩ := oit H
        obtain ⟨a99, g99, e99, H⟩ := obR H
        refine x_callV (M' := mi_X1_tell) (n := 3) (As := [.int v96, .int v97, .int v98]) (t_X1_tell C _ e99) c99 rfl rfl md_X1_tell ⟨Nat.le_of_ble_eq_true rfl, Nat.le_of_ble_eq_true rfl⟩ q1343 q1344 q1345 q120 q1346 rfl (Nat.le_of_ble_eq_true rfl) dL_law_633 ?_
        refine x_aload_n 2 rfl dL_law_636 ?_
        refine x_aload_n 0 rfl dL_law_637 ?_
        refine x_iload 4 rfl dL_law_638 ?_
        refine x_iconst (1 : Int32) dL_law_640 ic_1 ?_
        refine x_iadd dL_law_641 ?_
        obtain ⟨v100, e100, H⟩ := ob H
        refine x_iald e100 dL_law_642 ?_
        refine x_aload_n 0 rfl dL_law_643 ?_
        refine x_iload 4 rfl dL_law_644 ?_
        refine x_iconst (2 : Int32) dL_law_646 ic_2 ?_
        refine x_iadd dL_law_647 ?_
        obtain ⟨v101, e101, H⟩ := ob H
        refine x_iald e101 dL_law_648 ?_
        refine x_aload_n 0 rfl dL_law_649 ?_
        refine x_iload 4 rfl dL_law_650 ?_
        refine x_iconst (3 : Int32) dL_law_652 ic_3 ?_
        refine x_iadd dL_law_653 ?_
        obtain ⟨v102, e102, H⟩ := ob H
        refine x_iald e102 dL_law_654 ?_
        obtain ⟨c103, H⟩ := oit H
        obtain ⟨a103, g103, e103, H⟩ := obR H
        refine x_callV (M' := mi_X5_tell) (n := 3) (As := [.int v100, .int v101, .int v102]) (t_X5_tell C _ e103) c103 rfl rfl md_X5_tell ⟨Nat.le_of_ble_eq_true rfl, Nat.le_of_ble_eq_true rfl⟩ q2295 q2296 q2297 q131 q2298 rfl (Nat.le_of_ble_eq_true rfl) dL_law_655 ?_
        refine x_icmp_eq 1239 dL_law_658 (by decide) (fun c104 => ?_) (fun c104 => ?_)
        · rw [if_pos c104] at H
          exact t_L_law_b1239 hE ih _ _ _ _ _ _ H
        · rw [if_neg c104] at H
          refine x_iconst (0 : Int32) dL_law_661 ic_0 ?_
          obtain rfl := Option.some.inj H
          exact x_iretL hE rfl rfl dL_law_662
      rw [if_neg c95] at H
      by_cases c105 : (v6 &&& (63 : Int32)) = (12 : Int32)
      · rw [if_pos c105] at H
        refine x_tsw (off := 623) 663 dL_law_40 c105 (by decide) (by decide) (by decide) (by decide) ?_
        refine x_aload_n 1 rfl dL_law_663 ?_
        refine x_aload_n 0 rfl dL_law_664 ?_
        refine x_iload 4 rfl dL_law_665 ?_
        refine x_iconst (1 : Int32) dL_law_667 ic_1 ?_
        refine x_iadd dL_law_668 ?_
        obtain ⟨v106, e106, H⟩ := ob H
        refine x_iald e106 dL_law_669 ?_
        obtain ⟨c107, H⟩ := oit H
        obtain ⟨a107, g107, e107, H⟩ := obR H
        refine x_callV (M' := mi_X1_days) (n := 1) (As := [.int v106]) (t_X1_days C _ e107) c107 rfl rfl md_X1_days ⟨Nat.le_of_ble_eq_true rfl, Nat.le_of_ble_eq_true rfl⟩ q1359 q1360 q1361 q120 q1362 rfl (Nat.le_of_ble_eq_true rfl) dL_law_670 ?_
        refine x_aload_n 2 rfl dL_law_673 ?_
        refine x_aload_n 0 rfl dL_law_674 ?_
        refine x_iload 4 rfl dL_law_675 ?_
        refine x_iconst (1 : Int32) dL_law_677 ic_1 ?_
        refine x_iadd dL_law_678 ?_
        obtain ⟨v108, e108, H⟩ := ob H
        refine x_iald e108 dL_law_679 ?_
        obtain ⟨c109, H⟩ := oit H
        obtain ⟨a109, g109, e109, H⟩ := obR H
        refine x_callV (M' := mi_X5_days) (n := 1) (As := [.int v108]) (t_X5_days C _ e109) c109 rfl rfl md_X5_days ⟨Nat.le_of_ble_eq_true rfl, Nat.le_of_ble_eq_true rfl⟩ q2303 q2304 q2305 q131 q2306 rfl (Nat.le_of_ble_eq_true rfl) dL_law_680 ?_
        refine x_icmp_eq 1239 dL_law_683 (by decide) (fun c110 => ?_) (fun c110 => ?_)
        · rw [if_pos c110] at H
          exact t_L_law_b1239 hE ih _ _ _ _ _ _ H
        · rw [if_neg c110] at H
          refine x_iconst (0 : Int32) dL_law_686 ic_0 ?_
          obtain rfl := Option.some.inj H
          exact x_iretL hE rfl rfl dL_law_687
      rw [if_neg c105] at H
      by_cases c111 : (v6 &&& (63 : Int32)) = (13 : Int32)
      · rw [if_pos c111] at H
        refine x_tsw (off := 648) 688 dL_law_40 c111 (by decide) (by decide) (by decide) (by decide) ?_
        refine x_aload_n 1 rfl dL_law_688 ?_
        obtain ⟨c112, H⟩ := oit H
        obtain ⟨a112, g112, e112, H⟩ := obR H
        refine x_callV (M' := mi_X1_undo) (n := 0) (As := []) (t_X1_undo C _ e112) c112 rfl rfl md_X1_undo ⟨Nat.le_of_ble_eq_true rfl, Nat.le_of_ble_eq_true rfl⟩ q1365 q1366 q1367 q120 q1368 rfl (Nat.le_of_ble_eq_true rfl) dL_law_689 ?_
        refine x_aload_n 2 rfl dL_law_692 ?_
        obtain ⟨c113, H⟩ := oit H
        obtain ⟨a113, g113, e113, H⟩ := obR H
        refine x_callV (M' := mi_X5_undo) (n := 0) (As := []) (t_X5_undo C _ e113) c113 rfl rfl md_X5_undo ⟨Nat.le_of_ble_eq_true rfl, Nat.le_of_ble_eq_true rfl⟩ q2318 q2319 q2320 q131 q2321 rfl (Nat.le_of_ble_eq_true rfl) dL_law_693 ?_
        refine x_icmp_eq 1239 dL_law_696 (by decide) (fun c114 => ?_) (fun c114 => ?_)
        · rw [if_pos c114] at H
          exact t_L_law_b1239 hE ih _ _ _ _ _ _ H
        · rw [if_neg c114] at H
          refine x_iconst (0 : Int32) dL_law_699 ic_0 ?_
          obtain rfl := Option.some.inj H
          exact x_iretL hE rfl rfl dL_law_700
      rw [if_neg c111] at H
      by_cases c115 : (v6 &&& (63 : Int32)) = (14 : Int32)
      · rw [if_pos c115] at H
        refine x_tsw (off := 661) 701 dL_law_40 c115 (by decide) (by decide) (by decide) (by decide) ?_
        refine x_aload_n 1 rfl dL_law_701 ?_
        refine x_aload_n 0 rfl dL_law_702 ?_
        refine x_iload 4 rfl dL_law_703 ?_
        refine x_iconst (1 : Int32) dL_law_705 ic_1 ?_
        refine x_iadd dL_law_706 ?_
        obtain ⟨v116, e116, H⟩ := ob H
        refine x_iald e116 dL_law_707 ?_
        obtain ⟨c117, H⟩ := oit H
        obtain ⟨a117, g117, e117, H⟩ := obR H
        refine x_callV (M' := mi_X1_most) (n := 1) (As := [.int v116]) (t_X1_most C _ e117) c117 rfl rfl md_X1_most ⟨Nat.le_of_ble_eq_true rfl, Nat.le_of_ble_eq_true rfl⟩ q1369 q1370 q1371 q120 q1372 rfl (Nat.le_of_ble_eq_true rfl) dL_law_708 ?_
        refine x_aload_n 2 rfl dL_law_711 ?_
        refine x_aload_n 0 rfl dL_law_712 ?_
        refine x_iload 4 rfl dL_law_713 ?_
        refine x_iconst (1 : Int32) dL_law_715 ic_1 ?_
        refine x_iadd dL_law_716 ?_
        obtain ⟨v118, e118, H⟩ := ob H
        refine x_iald e118 dL_law_717 ?_
        obtain ⟨c119, H⟩ := oit H
        obtain ⟨a119, g119, e119, H⟩ := obR H
        refine x_callV (M' := mi_X5_most) (n := 1) (As := [.int v118]) (t_X5_most C _ e119) c119 rfl rfl md_X5_most ⟨Nat.le_of_ble_eq_true rfl, Nat.le_of_ble_eq_true rfl⟩ q2322 q2323 q2324 q131 q2325 rfl (Nat.le_of_ble_eq_true rfl) dL_law_718 ?_
        refine x_icmp_eq 1239 dL_law_721 (by decide) (fun c120 => ?_) (fun c120 => ?_)
        · rw [if_pos c120] at H
          exact t_L_law_b1239 hE ih _ _ _ _ _ _ H
        · rw [if_neg c120] at H
          refine x_iconst (0 : Int32) dL_law_724 ic_0 ?_
          obtain rfl := Option.some.inj H
          exact x_iretL hE rfl rfl dL_law_725
      rw [if_neg c115] at H
      by_cases c121 : (v6 &&& (63 : Int32)) = (15 : Int32)
      · rw [if_pos c121] at H
        refine x_tsw (off := 686) 726 dL_law_40 c121 (by decide) (by decide) (by decide) (by decide) ?_
        refine x_aload_n 1 rfl dL_law_726 ?_
        obtain ⟨c122, H⟩ := oit H
        obtain ⟨a122, g122, e122, H⟩ := obR H
        refine x_callV (M' := mi_X1_who) (n := 0) (As := []) (t_X1_who C _ e122) c122 rfl rfl md_X1_who ⟨Nat.le_of_ble_eq_true rfl, Nat.le_of_ble_eq_true rfl⟩ q1385 q1386 q1387 q120 q1388 rfl (Nat.le_of_ble_eq_true rfl) dL_law_727 ?_
        refine x_aload_n 2 rfl dL_law_730 ?_
        obtain ⟨c123, H⟩ := oit H
        obtain ⟨a123, g123, e123, H⟩ := obR H
        refine x_callV (M' := mi_X5_who) (n := 0) (As := []) (t_X5_who C _ e123) c123 rfl rfl md_X5_who ⟨Nat.le_of_ble_eq_true rfl, Nat.le_of_ble_eq_true rfl⟩ q2338 q2339 q2340 q131 q2341 rfl (Nat.le_of_ble_eq_true rfl) dL_law_731 ?_
        refine x_icmp_eq 1239 dL_law_734 (by decide) (fun c124 => ?_) (fun c124 => ?_)
        · rw [if_pos c124] at H
          exact t_L_law_b1239 hE ih _ _ _ _ _ _ H
        · rw [if_neg c124] at H
          refine x_iconst (0 : Int32) dL_law_737 ic_0 ?_
          obtain rfl := Option.some.inj H
          exact x_iretL hE rfl rfl dL_law_738
      rw [if_neg c121] at H
      by_cases c125 : (v6 &&& (63 : Int32)) = (16 : Int32)
      · rw [if_pos c125] at H
        refine x_tsw (off := 699) 739 dL_law_40 c125 (by decide) (by decide) (by decide) (by decide) ?_
        refine x_aload_n 1 rfl dL_law_739 ?_
        obtain ⟨c126, H⟩ := oit H
        obtain ⟨a126, g126, e126, H⟩ := obR H
        refine x_callV (M' := mi_X1_ask) (n := 0) (As := []) (t_X1_ask C _ e126) c126 rfl rfl md_X1_ask ⟨Nat.le_of_ble_eq_true rfl, Nat.le_of_ble_eq_true rfl⟩ q1406 q1407 q1408 q120 q1409 rfl (Nat.le_of_ble_eq_true rfl) dL_law_740 ?_
        refine x_aload_n 2 rfl dL_law_743 ?_
        obtain ⟨c127, H⟩ := oit H
        obtain ⟨a127, g127, e127, H⟩ := obR H
        refine x_callV (M' := mi_X5_ask) (n := 0) (As := []) (t_X5_ask C _ e127) c127 rfl rfl md_X5_ask ⟨Nat.le_of_ble_eq_true rfl, Nat.le_of_ble_eq_true rfl⟩ q2350 q2351 q2352 q131 q2353 rfl (Nat.le_of_ble_eq_true rfl) dL_law_744 ?_
        refine x_icmp_eq 1239 dL_law_747 (by decide) (fun c128 => ?_) (fun c128 => ?_)
        · rw [if_pos c128] at H
          exact t_L_law_b1239 hE ih _ _ _ _ _ _ H
        · rw [if_neg c128] at H
          refine x_iconst (0 : Int32) dL_law_750 ic_0 ?_
          obtain rfl := Option.some.inj H
          exact x_iretL hE rfl rfl dL_law_751
      rw [if_neg c125] at H
      by_cases c129 : (v6 &&& (63 : Int32)) = (17 : Int32)
      · rw [if_pos c129] at H
        refine x_tsw (off := 712) 752 dL_law_40 c129 (by decide) (by decide) (by decide) (by decide) ?_
        refine x_aload_n 1 rfl dL_law_752 ?_
        refine x_aload_n 0 rfl dL_law_753 ?_
        refine x_iload 4 rfl dL_law_754 ?_
        refine x_iconst (1 : Int32) dL_law_756 ic_1 ?_
        refine x_iadd dL_law_757 ?_
        obtain ⟨v130, e130, H⟩ := ob H
        refine x_iald e130 dL_law_758 ?_
        obtain ⟨c131, H⟩ := oit H
        obtain ⟨a131, g131, e131, H⟩ := obR H
        refine x_callV (M' := mi_X1_serve) (n := 1) (As := [.int v130]) (t_X1_serve C _ e131) c131 rfl rfl md_X1_serve ⟨Nat.le_of_ble_eq_true rfl, Nat.le_of_ble_eq_true rfl⟩ q1410 q1411 q1412 q120 q1413 rfl (Nat.le_of_ble_eq_true rfl) dL_law_759 ?_
        refine x_aload_n 2 rfl dL_law_762 ?_
        refine x_aload_n 0 rfl dL_law_763 ?_
        refine x_iload 4 rfl dL_law_764 ?_
        refine x_iconst (1 : Int32) dL_law_766 ic_1 ?_
        refine x_iadd dL_law_767 ?_
        obtain ⟨v132, e132, H⟩ := ob H
        refine x_iald e132 dL_law_768 ?_
        obtain ⟨c133, H⟩ := oit H
        obtain ⟨a133, g133, e133, H⟩ := obR H
        refine x_callV (M' := mi_X5_serve) (n := 1) (As := [.int v132]) (t_X5_serve C _ e133) c133 rfl rfl md_X5_serve ⟨Nat.le_of_ble_eq_true rfl, Nat.le_of_ble_eq_true rfl⟩ q2354 q2355 q2356 q131 q2357 rfl (Nat.le_of_ble_eq_true rfl) dL_law_769 ?_
        refine x_icmp_eq 1239 dL_law_772 (by decide) (fun c134 => ?_) (fun c134 => ?_)
        · rw [if_pos c134] at H
          exact t_L_law_b1239 hE ih _ _ _ _ _ _ H
        · rw [if_neg c134] at H
          refine x_iconst (0 : Int32) dL_law_775 ic_0 ?_
          obtain rfl := Option.some.inj H
          exact x_iretL hE rfl rfl dL_law_776
      rw [if_neg c129] at H
      by_cases c135 : (v6 &&& (63 : Int32)) = (18 : Int32)
      · rw [if_pos c135] at H
        refine x_tsw (off := 737) 777 dL_law_40 c135 (by decide) (by decide) (by decide) (by decide) ?_
        refine x_aload_n 1 rfl dL_law_777 ?_
        obtain ⟨c136, H⟩ := oit H
        obtain ⟨a136, g136, e136, H⟩ := obR H
        refine x_callV (M' := mi_X1_serving) (n := 0) (As := []) (t_X1_serving C _ e136) c136 rfl rfl md_X1_serving ⟨Nat.le_of_ble_eq_true rfl, Nat.le_of_ble_eq_true rfl⟩ q1419 q1420 q1421 q120 q1422 rfl (Nat.le_of_ble_eq_true rfl) dL_law_778 ?_
        refine x_aload_n 2 rfl dL_law_781 ?_
        obtain ⟨c137, H⟩ := oit H
        obtain ⟨a137, g137, e137, H⟩ := obR H
        refine x_callV (M' := mi_X5_serving) (n := 0) (As := []) (t_X5_serving C _ e137) c137 rfl rfl md_X5_serving ⟨Nat.le_of_ble_eq_true rfl, Nat.le_of_ble_eq_true rfl⟩ q2362 q2363 q2364 q131 q2365 rfl (Nat.le_of_ble_eq_true rfl) dL_law_782 ?_
        refine x_icmp_eq 1239 dL_law_785 (by decide) (fun c138 => ?_) (fun c138 => ?_)
        · rw [if_pos c138] at H
          exact t_L_law_b1239 hE ih _ _ _ _ _ _ H
        · rw [if_neg c138] at H
          refine x_iconst (0 : Int32) dL_law_788 ic_0 ?_
          obtain rfl := Option.some.inj H
          exact x_iretL hE rfl rfl dL_law_789
      rw [if_neg c135] at H
      by_cases c139 : (v6 &&& (63 : Int32)) = (19 : Int32)
      · rw [if_pos c139] at H
        refine x_tsw (off := 750) 790 dL_law_40 c139 (by decide) (by decide) (by decide) (by decide) ?_
        refine x_aload_n 1 rfl dL_law_790 ?_
        refine x_aload_n 0 rfl dL_law_791 ?_
        refine x_iload 4 rfl dL_law_792 ?_
        refine x_iconst (1 : Int32) dL_law_794 ic_1 ?_
        refine x_iadd dL_law_795 ?_
        obtain ⟨v140, e140, H⟩ := ob H
        refine x_iald e140 dL_law_796 ?_
        refine x_aload_n 0 rfl dL_law_797 ?_
        refine x_iload 4 rfl dL_law_798 ?_
        refine x_iconst (2 : Int32) dL_law_800 ic_2 ?_
        refine x_iadd dL_law_801 ?_
        obtain ⟨v141, e141, H⟩ := ob H
        refine x_iald e141 dL_law_802 ?_
        obtain ⟨c142, H⟩ := oit H
        obtain ⟨a142, g142, e142, H⟩ := obR H
        refine x_callV (M' := mi_X1_chain) (n := 2) (As := [.int v140, .int v141]) (t_X1_chain C _ e142) c142 rfl rfl md_X1_chain ⟨Nat.le_of_ble_eq_true rfl, Nat.le_of_ble_eq_true rfl⟩ q1423 q1424 q1425 q120 q1426 rfl (Nat.le_of_ble_eq_true rfl) dL_law_803 ?_
        refine x_aload_n 2 rfl dL_law_806 ?_
        refine x_aload_n 0 rfl dL_law_807 ?_
        refine x_iload 4 rfl dL_law_808 ?_
        refine x_iconst (1 : Int32) dL_law_810 ic_1 ?_
        refine x_iadd dL_law_811 ?_
        obtain ⟨v143, e143, H⟩ := ob H
        refine x_iald e143 dL_law_812 ?_
        refine x_aload_n 0 rfl dL_law_813 ?_
        refine x_iload 4 rfl dL_law_814 ?_
        refine x_iconst (2 : Int32) dL_law_816 ic_2 ?_
        refine x_iadd dL_law_817 ?_
        obtain ⟨v144, e144, H⟩ := ob H
        refine x_iald e144 dL_law_818 ?_
        obtain ⟨c145, H⟩ := oit H
        obtain ⟨a145, g145, e145, H⟩ := obR H
        refine x_callV (M' := mi_X5_chain) (n := 2) (As := [.int v143, .int v144]) (t_X5_chain C _ e145) c145 rfl rfl md_X5_chain ⟨Nat.le_of_ble_eq_true rfl, Nat.le_of_ble_eq_true rfl⟩ q2366 q2367 q2368 q131 q2369 rfl (Nat.le_of_ble_eq_true rfl) dL_law_819 ?_
        refine x_icmp_eq 1239 dL_law_822 (by decide) (fun c146 => ?_) (fun c146 => ?_)
        · rw [if_pos c146] at H
          exact t_L_law_b1239 hE ih _ _ _ _ _ _ H
        · rw [if_neg c146] at H
          refine x_iconst (0 : Int32) dL_law_825 ic_0 ?_
          obtain rfl := Option.some.inj H
          exact x_iretL hE rfl rfl dL_law_826
      rw [if_neg c139] at H
      by_cases c147 : (v6 &&& (63 : Int32)) = (20 : Int32)
      · rw [if_pos c147] at H
        refine x_tsw (off := 787) 827 dL_law_40 c147 (by decide) (by decide) (by decide) (by decide) ?_
        refine x_aload_n 1 rfl dL_law_827 ?_
        refine x_aload_n 0 rfl dL_law_828 ?_
        refine x_iload 4 rfl dL_law_829 ?_
        refine x_iconst (1 : Int32) dL_law_831 ic_1 ?_
        refine x_iadd dL_law_832 ?_
        obtain ⟨v148, e148, H⟩ := ob H
        refine x_iald e148 dL_law_833 ?_
        obtain ⟨c149, H⟩ := oit H
        obtain ⟨a149, g149, e149, H⟩ := obR H
        refine x_callV (M' := mi_X1_chainAt) (n := 1) (As := [.int v148]) (t_X1_chainAt C _ e149) c149 rfl rfl md_X1_chainAt ⟨Nat.le_of_ble_eq_true rfl, Nat.le_of_ble_eq_true rfl⟩ q1432 q1433 q1434 q120 q1435 rfl (Nat.le_of_ble_eq_true rfl) dL_law_834 ?_
        refine x_aload_n 2 rfl dL_law_837 ?_
        refine x_aload_n 0 rfl dL_law_838 ?_
        refine x_iload 4 rfl dL_law_839 ?_
        refine x_iconst (1 : Int32) dL_law_841 ic_1 ?_
        refine x_iadd dL_law_842 ?_
        obtain ⟨v150, e150, H⟩ := ob H
        refine x_iald e150 dL_law_843 ?_
        obtain ⟨c151, H⟩ := oit H
        obtain ⟨a151, g151, e151, H⟩ := obR H
        refine x_callV (M' := mi_X5_chainAt) (n := 1) (As := [.int v150]) (t_X5_chainAt C _ e151) c151 rfl rfl md_X5_chainAt ⟨Nat.le_of_ble_eq_true rfl, Nat.le_of_ble_eq_true rfl⟩ q2374 q2375 q2376 q131 q2377 rfl (Nat.le_of_ble_eq_true rfl) dL_law_844 ?_
        refine x_icmp_eq 1239 dL_law_847 (by decide) (fun c152 => ?_) (fun c152 => ?_)
        · rw [if_pos c152] at H
          exact t_L_law_b1239 hE ih _ _ _ _ _ _ H
        · rw [if_neg c152] at H
          refine x_iconst (0 : Int32) dL_law_850 ic_0 ?_
          obtain rfl := Option.some.inj H
          exact x_iretL hE rfl rfl dL_law_851
      rw [if_neg c147] at H
      by_cases c153 : (v6 &&& (63 : Int32)) = (21 : Int32)
      · rw [if_pos c153] at H
        refine x_tsw (off := 812) 852 dL_law_40 c153 (by decide) (by decide) (by decide) (by decide) ?_
        refine x_aload_n 1 rfl dL_law_852 ?_
        refine x_aload_n 0 rfl dL_law_853 ?_
        refine x_iload 4 rfl dL_law_854 ?_
        refine x_iconst (1 : Int32) dL_law_856 ic_1 ?_
        refine x_iadd dL_law_857 ?_
        obtain ⟨v154, e154, H⟩ := ob H
        refine x_iald e154 dL_law_858 ?_
        obtain ⟨c155, H⟩ := oit H
        obtain ⟨a155, g155, e155, H⟩ := obR H
        refine x_callV (M' := mi_X1_out) (n := 1) (As := [.int v154]) (t_X1_out C _ e155) c155 rfl rfl md_X1_out ⟨Nat.le_of_ble_eq_true rfl, Nat.le_of_ble_eq_true rfl⟩ q1436 q1437 q1438 q120 q1439 rfl (Nat.le_of_ble_eq_true rfl) dL_law_859 ?_
        refine x_aload_n 2 rfl dL_law_862 ?_
        refine x_aload_n 0 rfl dL_law_863 ?_
        refine x_iload 4 rfl dL_law_864 ?_
        refine x_iconst (1 : Int32) dL_law_866 ic_1 ?_
        refine x_iadd dL_law_867 ?_
        obtain ⟨v156, e156, H⟩ := ob H
        refine x_iald e156 dL_law_868 ?_
        obtain ⟨c157, H⟩ := oit H
        obtain ⟨a157, g157, e157, H⟩ := obR H
        refine x_callV (M' := mi_X5_out) (n := 1) (As := [.int v156]) (t_X5_out C _ e157) c157 rfl rfl md_X5_out ⟨Nat.le_of_ble_eq_true rfl, Nat.le_of_ble_eq_true rfl⟩ q2378 q2379 q2380 q131 q2381 rfl (Nat.le_of_ble_eq_true rfl) dL_law_869 ?_
        refine x_icmp_eq 1239 dL_law_872 (by decide) (fun c158 => ?_) (fun c158 => ?_)
        · rw [if_pos c158] at H
          exact t_L_law_b1239 hE ih _ _ _ _ _ _ H
        · rw [if_neg c158] at H
          refine x_iconst (0 : Int32) dL_law_875 ic_0 ?_
          obtain rfl := Option.some.inj H
          exact x_iretL hE rfl rfl dL_law_876
      rw [if_neg c153] at H
      by_cases c159 : (v6 &&& (63 : Int32)) = (22 : Int32)
      · rw [if_pos c159] at H
        refine x_tsw (off := 837) 877 dL_law_40 c159 (by decide) (by decide) (by decide) (by decide) ?_
        refine x_aload_n 1 rfl dL_law_877 ?_
        refine x_aload_n 0 rfl dL_law_878 ?_
        refine x_iload 4 rfl dL_law_879 ?_
        refine x_iconst (1 : Int32) dL_law_881 ic_1 ?_
        refine x_iadd dL_law_882 ?_
        obtain ⟨v160, e160, H⟩ := ob H
        refine x_iald e160 dL_law_883 ?_
        refine x_aload_n 0 rfl dL_law_884 ?_
        refine x_iload 4 rfl dL_law_885 ?_
        refine x_iconst (2 : Int32) dL_law_887 ic_2 ?_
        refine x_iadd dL_law_888 ?_
        obtain ⟨v161, e161, H⟩ := ob H
        refine x_iald e161 dL_law_889 ?_
        obtain ⟨c162, H⟩ := oit H
        obtain ⟨a162, g162, e162, H⟩ := obR H
        refine x_callV (M' := mi_X1_apart) (n := 2) (As := [.int v160, .int v161]) (t_X1_apart C _ e162) c162 rfl rfl md_X1_apart ⟨Nat.le_of_ble_eq_true rfl, Nat.le_of_ble_eq_true rfl⟩ q1449 q1450 q1451 q120 q1452 rfl (Nat.le_of_ble_eq_true rfl) dL_law_890 ?_
        refine x_aload_n 2 rfl dL_law_893 ?_
        refine x_aload_n 0 rfl dL_law_894 ?_
        refine x_iload 4 rfl dL_law_895 ?_
        refine x_iconst (1 : Int32) dL_law_897 ic_1 ?_
        refine x_iadd dL_law_898 ?_
        obtain ⟨v163, e163, H⟩ := ob H
        refine x_iald e163 dL_law_899 ?_
        refine x_aload_n 0 rfl dL_law_900 ?_
        refine x_iload 4 rfl dL_law_901 ?_
        refine x_iconst (2 : Int32) dL_law_903 ic_2 ?_
        refine x_iadd dL_law_904 ?_
        obtain ⟨v164, e164, H⟩ := ob H
        refine x_iald e164 dL_law_905 ?_
        obtain ⟨c165, H⟩ := oit H
        obtain ⟨a165, g165, e165, H⟩ := obR H
        refine x_callV (M' := mi_X5_apart) (n := 2) (As := [.int v163, .int v164]) (t_X5_apart C _ e165) c165 rfl rfl md_X5_apart ⟨Nat.le_of_ble_eq_true rfl, Nat.le_of_ble_eq_true rfl⟩ q2386 q2387 q2388 q131 q2389 rfl (Nat.le_of_ble_eq_true rfl) dL_law_906 ?_
        refine x_icmp_eq 1239 dL_law_909 (by decide) (fun c166 => ?_) (fun c166 => ?_)
        · rw [if_pos c166] at H
          exact t_L_law_b1239 hE ih _ _ _ _ _ _ H
        · rw [if_neg c166] at H
          refine x_iconst (0 : Int32) dL_law_912 ic_0 ?_
          obtain rfl := Option.some.inj H
          exact x_iretL hE rfl rfl dL_law_913
      rw [if_neg c159] at H
      by_cases c167 : (v6 &&& (63 : Int32)) = (23 : Int32)
      · rw [if_pos c167] at H
        refine x_tsw (off := 874) 914 dL_law_40 c167 (by decide) (by decide) (by decide) (by decide) ?_
        refine x_aload_n 1 rfl dL_law_914 ?_
        obtain ⟨c168, H⟩ := oit H
        obtain ⟨a168, g168, e168, H⟩ := obR H
        refine x_callV (M' := mi_X1_parting) (n := 0) (As := []) (t_X1_parting C _ e168) c168 rfl rfl md_X1_parting ⟨Nat.le_of_ble_eq_true rfl, Nat.le_of_ble_eq_true rfl⟩ q1458 q1459 q1460 q120 q1461 rfl (Nat.le_of_ble_eq_true rfl) dL_law_915 ?_
        refine x_aload_n 2 rfl dL_law_918 ?_
        obtain ⟨c169, H⟩ := oit H
        obtain ⟨a169, g169, e169, H⟩ := obR H
        refine x_callV (M' := mi_X5_parting) (n := 0) (As := []) (t_X5_parting C _ e169) c169 rfl rfl md_X5_parting ⟨Nat.le_of_ble_eq_true rfl, Nat.le_of_ble_eq_true rfl⟩ q2394 q2395 q2396 q131 q2397 rfl (Nat.le_of_ble_eq_true rfl) dL_law_919 ?_
        refine x_icmp_eq 1239 dL_law_922 (by decide) (fun c170 => ?_) (fun c170 => ?_)
        · rw [if_pos c170] at H
          exact t_L_law_b1239 hE ih _ _ _ _ _ _ H
        · rw [if_neg c170] at H
          refine x_iconst (0 : Int32) dL_law_925 ic_0 ?_
          obtain rfl := Option.some.inj H
          exact x_iretL hE rfl rfl dL_law_926
      rw [if_neg c167] at H
      by_cases c171 : (v6 &&& (63 : Int32)) = (24 : Int32)
      · rw [if_pos c171] at H
        refine x_tsw (off := 887) 927 dL_law_40 c171 (by decide) (by decide) (by decide) (by decide) ?_
        refine x_aload_n 1 rfl dL_law_927 ?_
        obtain ⟨c172, H⟩ := oit H
        obtain ⟨a172, g172, e172, H⟩ := obR H
        refine x_callV (M' := mi_X1_recluse) (n := 0) (As := []) (t_X1_recluse C _ e172) c172 rfl rfl md_X1_recluse ⟨Nat.le_of_ble_eq_true rfl, Nat.le_of_ble_eq_true rfl⟩ q1462 q1463 q1464 q120 q1465 rfl (Nat.le_of_ble_eq_true rfl) dL_law_928 ?_
        refine x_aload_n 2 rfl dL_law_931 ?_
        obtain ⟨c173, H⟩ := oit H
        obtain ⟨a173, g173, e173, H⟩ := obR H
        refine x_callV (M' := mi_X5_recluse) (n := 0) (As := []) (t_X5_recluse C _ e173) c173 rfl rfl md_X5_recluse ⟨Nat.le_of_ble_eq_true rfl, Nat.le_of_ble_eq_true rfl⟩ q2398 q2399 q2400 q131 q2401 rfl (Nat.le_of_ble_eq_true rfl) dL_law_932 ?_
        refine x_icmp_eq 1239 dL_law_935 (by decide) (fun c174 => ?_) (fun c174 => ?_)
        · rw [if_pos c174] at H
          exact t_L_law_b1239 hE ih _ _ _ _ _ _ H
        · rw [if_neg c174] at H
          refine x_iconst (0 : Int32) dL_law_938 ic_0 ?_
          obtain rfl := Option.some.inj H
          exact x_iretL hE rfl rfl dL_law_939
      rw [if_neg c171] at H
      by_cases c175 : (v6 &&& (63 : Int32)) = (25 : Int32)
      · rw [if_pos c175] at H
        refine x_tsw (off := 900) 940 dL_law_40 c175 (by decide) (by decide) (by decide) (by decide) ?_
        refine x_aload_n 1 rfl dL_law_940 ?_
        refine x_aload_n 0 rfl dL_law_941 ?_
        refine x_iload 4 rfl dL_law_942 ?_
        refine x_iconst (1 : Int32) dL_law_944 ic_1 ?_
        refine x_iadd dL_law_945 ?_
        obtain ⟨v176, e176, H⟩ := ob H
        refine x_iald e176 dL_law_946 ?_
        obtain ⟨c177, H⟩ := oit H
        obtain ⟨a177, g177, e177, H⟩ := obR H
        refine x_callV (M' := mi_X1_face) (n := 1) (As := [.int v176]) (t_X1_face C _ e177) c177 rfl rfl md_X1_face ⟨Nat.le_of_ble_eq_true rfl, Nat.le_of_ble_eq_true rfl⟩ q1466 q1467 q1468 q120 q1469 rfl (Nat.le_of_ble_eq_true rfl) dL_law_947 ?_
        refine x_aload_n 2 rfl dL_law_950 ?_
        refine x_aload_n 0 rfl dL_law_951 ?_
        refine x_iload 4 rfl dL_law_952 ?_
        refine x_iconst (1 : Int32) dL_law_954 ic_1 ?_
        refine x_iadd dL_law_955 ?_
        obtain ⟨v178, e178, H⟩ := ob H
        refine x_iald e178 dL_law_956 ?_
        obtain ⟨c179, H⟩ := oit H
        obtain ⟨a179, g179, e179, H⟩ := obR H
        refine x_callV (M' := mi_X5_face) (n := 1) (As := [.int v178]) (t_X5_face C _ e179) c179 rfl rfl md_X5_face ⟨Nat.le_of_ble_eq_true rfl, Nat.le_of_ble_eq_true rfl⟩ q2402 q2403 q2404 q131 q2405 rfl (Nat.le_of_ble_eq_true rfl) dL_law_957 ?_
        refine x_icmp_eq 1239 dL_law_960 (by decide) (fun c180 => ?_) (fun c180 => ?_)
        · rw [if_pos c180] at H
          exact t_L_law_b1239 hE ih _ _ _ _ _ _ H
        · rw [if_neg c180] at H
          refine x_iconst (0 : Int32) dL_law_963 ic_0 ?_
          obtain rfl := Option.some.inj H
          exact x_iretL hE rfl rfl dL_law_964
      rw [if_neg c175] at H
      by_cases c181 : (v6 &&& (63 : Int32)) = (26 : Int32)
      · rw [if_pos c181] at H
        refine x_tsw (off := 925) 965 dL_law_40 c181 (by decide) (by decide) (by decide) (by decide) ?_
        refine x_aload_n 1 rfl dL_law_965 ?_
        refine x_aload_n 0 rfl dL_law_966 ?_
        refine x_iload 4 rfl dL_law_967 ?_
        refine x_iconst (1 : Int32) dL_law_969 ic_1 ?_
        refine x_iadd dL_law_970 ?_
        obtain ⟨v182, e182, H⟩ := ob H
        refine x_iald e182 dL_law_971 ?_
        obtain ⟨c183, H⟩ := oit H
        obtain ⟨a183, g183, e183, H⟩ := obR H
        refine x_callV (M' := mi_X1_byteAt) (n := 1) (As := [.int v182]) (t_X1_byteAt C _ e183) c183 rfl rfl md_X1_byteAt ⟨Nat.le_of_ble_eq_true rfl, Nat.le_of_ble_eq_true rfl⟩ q1492 q1493 q1494 q120 q1495 rfl (Nat.le_of_ble_eq_true rfl) dL_law_972 ?_
        refine x_aload_n 2 rfl dL_law_975 ?_
        refine x_aload_n 0 rfl dL_law_976 ?_
        refine x_iload 4 rfl dL_law_977 ?_
        refine x_iconst (1 : Int32) dL_law_979 ic_1 ?_
        refine x_iadd dL_law_980 ?_
        obtain ⟨v184, e184, H⟩ := ob H
        refine x_iald e184 dL_law_981 ?_
        obtain ⟨c185, H⟩ := oit H
        obtain ⟨a185, g185, e185, H⟩ := obR H
        refine x_callV (M' := mi_X5_byteAt) (n := 1) (As := [.int v184]) (t_X5_byteAt C _ e185) c185 rfl rfl md_X5_byteAt ⟨Nat.le_of_ble_eq_true rfl, Nat.le_of_ble_eq_true rfl⟩ q2420 q2421 q2422 q131 q2423 rfl (Nat.le_of_ble_eq_true rfl) dL_law_982 ?_
        refine x_icmp_eq 1239 dL_law_985 (by decide) (fun c186 => ?_) (fun c186 => ?_)
        · rw [if_pos c186] at H
          exact t_L_law_b1239 hE ih _ _ _ _ _ _ H
        · rw [if_neg c186] at H
          refine x_iconst (0 : Int32) dL_law_988 ic_0 ?_
          obtain rfl := Option.some.inj H
          exact x_iretL hE rfl rfl dL_law_989
      rw [if_neg c181] at H
      by_cases c187 : (v6 &&& (63 : Int32)) = (27 : Int32)
      · rw [if_pos c187] at H
        refine x_tsw (off := 950) 990 dL_law_40 c187 (by decide) (by decide) (by decide) (by decide) ?_
        refine x_aload_n 1 rfl dL_law_990 ?_
        refine x_aload_n 0 rfl dL_law_991 ?_
        refine x_iload 4 rfl dL_law_992 ?_
        refine x_iconst (1 : Int32) dL_law_994 ic_1 ?_
        refine x_iadd dL_law_995 ?_
        obtain ⟨v188, e188, H⟩ := ob H
        refine x_iald e188 dL_law_996 ?_
        refine x_aload_n 0 rfl dL_law_997 ?_
        refine x_iload 4 rfl dL_law_998 ?_
        refine x_iconst (2 : Int32) dL_law_1000 ic_2 ?_
        refine x_iadd dL_law_1001 ?_
        obtain ⟨v189, e189, H⟩ := ob H
        refine x_iald e189 dL_law_1002 ?_
        obtain ⟨c190, H⟩ := oit H
        obtain ⟨a190, g190, e190, H⟩ := obR H
        refine x_callV (M' := mi_X1_drawn) (n := 2) (As := [.int v188, .int v189]) (t_X1_drawn C _ e190) c190 rfl rfl md_X1_drawn ⟨Nat.le_of_ble_eq_true rfl, Nat.le_of_ble_eq_true rfl⟩ q1507 q1508 q1509 q120 q1510 rfl (Nat.le_of_ble_eq_true rfl) dL_law_1003 ?_
        refine x_aload_n 2 rfl dL_law_1006 ?_
        refine x_aload_n 0 rfl dL_law_1007 ?_
        refine x_iload 4 rfl dL_law_1008 ?_
        refine x_iconst (1 : Int32) dL_law_1010 ic_1 ?_
        refine x_iadd dL_law_1011 ?_
        obtain ⟨v191, e191, H⟩ := ob H
        refine x_iald e191 dL_law_1012 ?_
        refine x_aload_n 0 rfl dL_law_1013 ?_
        refine x_iload 4 rfl dL_law_1014 ?_
        refine x_iconst (2 : Int32) dL_law_1016 ic_2 ?_
        refine x_iadd dL_law_1017 ?_
        obtain ⟨v192, e192, H⟩ := ob H
        refine x_iald e192 dL_law_1018 ?_
        obtain ⟨c193, H⟩ := oit H
        obtain ⟨a193, g193, e193, H⟩ := obR H
        refine x_callV (M' := mi_X5_drawn) (n := 2) (As := [.int v191, .int v192]) (t_X5_drawn C _ e193) c193 rfl rfl md_X5_drawn ⟨Nat.le_of_ble_eq_true rfl, Nat.le_of_ble_eq_true rfl⟩ q2424 q2425 q2426 q131 q2427 rfl (Nat.le_of_ble_eq_true rfl) dL_law_1019 ?_
        refine x_icmp_eq 1239 dL_law_1022 (by decide) (fun c194 => ?_) (fun c194 => ?_)
        · rw [if_pos c194] at H
          exact t_L_law_b1239 hE ih _ _ _ _ _ _ H
        · rw [if_neg c194] at H
          refine x_iconst (0 : Int32) dL_law_1025 ic_0 ?_
          obtain rfl := Option.some.inj H
          exact x_iretL hE rfl rfl dL_law_1026
      rw [if_neg c187] at H
      by_cases c195 : (v6 &&& (63 : Int32)) = (28 : Int32)
      · rw [if_pos c195] at H
        refine x_tsw (off := 987) 1027 dL_law_40 c195 (by decide) (by decide) (by decide) (by decide) ?_
        refine x_aload_n 1 rfl dL_law_1027 ?_
        refine x_aload_n 0 rfl dL_law_1028 ?_
        refine x_iload 4 rfl dL_law_1029 ?_
        refine x_iconst (1 : Int32) dL_law_1031 ic_1 ?_
        refine x_iadd dL_law_1032 ?_
        obtain ⟨v196, e196, H⟩ := ob H
        refine x_iald e196 dL_law_1033 ?_
        refine x_aload_n 0 rfl dL_law_1034 ?_
        refine x_iload 4 rfl dL_law_1035 ?_
        refine x_iconst (2 : Int32) dL_law_1037 ic_2 ?_
        refine x_iadd dL_law_1038 ?_
        obtain ⟨v197, e197, H⟩ := ob H
        refine x_iald e197 dL_law_1039 ?_
        refine x_aload_n 0 rfl dL_law_1040 ?_
        refine x_iload 4 rfl dL_law_1041 ?_
        refine x_iconst (3 : Int32) dL_law_1043 ic_3 ?_
        refine x_iadd dL_law_1044 ?_
        obtain ⟨v198, e198, H⟩ := ob H
        refine x_iald e198 dL_law_1045 ?_
        obtain ⟨c199, H⟩ := oit H
        obtain ⟨a199, g199, e199, H⟩ := obR H
        refine x_callV (M' := mi_X1_odds) (n := 3) (As := [.int v196, .int v197, .int v198]) (t_X1_odds C _ e199) c199 rfl rfl md_X1_odds ⟨Nat.le_of_ble_eq_true rfl, Nat.le_of_ble_eq_true rfl⟩ q1534 q1535 q1536 q120 q1537 rfl (Nat.le_of_ble_eq_true rfl) dL_law_1046 ?_
        refine x_aload_n 2 rfl dL_law_1049 ?_
        refine x_aload_n 0 rfl dL_law_1050 ?_
        refine x_iload 4 rfl dL_law_1051 ?_
        refine x_iconst (1 : Int32) dL_law_1053 ic_1 ?_
        refine x_iadd dL_law_1054 ?_
        obtain ⟨v200, e200, H⟩ := ob H
        refine x_iald e200 dL_law_1055 ?_
        refine x_aload_n 0 rfl dL_law_1056 ?_
        refine x_iload 4 rfl dL_law_1057 ?_
        refine x_iconst (2 : Int32) dL_law_1059 ic_2 ?_
        refine x_iadd dL_law_1060 ?_
        obtain ⟨v201, e201, H⟩ := ob H
        refine x_iald e201 dL_law_1061 ?_
        refine x_aload_n 0 rfl dL_law_1062 ?_
        refine x_iload 4 rfl dL_law_1063 ?_
        refine x_iconst (3 : Int32) dL_law_1065 ic_3 ?_
        refine x_iadd dL_law_1066 ?_
        obtain ⟨v202, e202, H⟩ := ob H
        refine x_iald e202 dL_law_1067 ?_
        obtain ⟨c203, H⟩ := oit H
        obtain ⟨a203, g203, e203, H⟩ := obR H
        refine x_callV (M' := mi_X5_odds) (n := 3) (As := [.int v200, .int v201, .int v202]) (t_X5_odds C _ e203) c203 rfl rfl md_X5_odds ⟨Nat.le_of_ble_eq_true rfl, Nat.le_of_ble_eq_true rfl⟩ q2441 q2442 q2443 q131 q2444 rfl (Nat.le_of_ble_eq_true rfl) dL_law_1068 ?_
        refine x_icmp_eq 1239 dL_law_1071 (by decide) (fun c204 => ?_) (fun c204 => ?_)
        · rw [if_pos c204] at H
          exact t_L_law_b1239 hE ih _ _ _ _ _ _ H
        · rw [if_neg c204] at H
          refine x_iconst (0 : Int32) dL_law_1074 ic_0 ?_
          obtain rfl := Option.some.inj H
          exact x_iretL hE rfl rfl dL_law_1075
      rw [if_neg c195] at H
      by_cases c205 : (v6 &&& (63 : Int32)) = (29 : Int32)
      · rw [if_pos c205] at H
        refine x_tsw (off := 1036) 1076 dL_law_40 c205 (by decide) (by decide) (by decide) (by decide) ?_
        refine x_aload_n 1 rfl dL_law_1076 ?_
        refine x_aload_n 0 rfl dL_law_1077 ?_
        refine x_iload 4 rfl dL_law_1078 ?_
        refine x_iconst (1 : Int32) dL_law_1080 ic_1 ?_
        refine x_iadd dL_law_1081 ?_
        obtain ⟨v206, e206, H⟩ := ob H
        refine x_iald e206 dL_law_1082 ?_
        obtain ⟨c207, H⟩ := oit H
        obtain ⟨a207, g207, e207, H⟩ := obR H
        refine x_callVX (hh := [(23, 56, 57, 119)]) (M' := mi_X1_book) (n := 1) (As := [.int v206]) (t_X1_book C _ e207) c207 rfl rfl md_X1_book ⟨Nat.le_of_ble_eq_true rfl, Nat.le_of_ble_eq_true rfl⟩ q1538 q1539 q1540 q120 q1541 rfl (Nat.le_of_ble_eq_true rfl) dL_law_1083 ?_
        refine x_aload_n 2 rfl dL_law_1086 ?_
        refine x_aload_n 0 rfl dL_law_1087 ?_
        refine x_iload 4 rfl dL_law_1088 ?_
        refine x_iconst (1 : Int32) dL_law_1090 ic_1 ?_
        refine x_iadd dL_law_1091 ?_
        obtain ⟨v208, e208, H⟩ := ob H
        refine x_iald e208 dL_law_1092 ?_
        obtain ⟨c209, H⟩ := oit H
        obtain ⟨a209, g209, e209, H⟩ := obR H
        refine x_callV (M' := mi_X5_book) (n := 1) (As := [.int v208]) (t_X5_book C _ e209) c209 rfl rfl md_X5_book ⟨Nat.le_of_ble_eq_true rfl, Nat.le_of_ble_eq_true rfl⟩ q2453 q2454 q2455 q131 q2456 rfl (Nat.le_of_ble_eq_true rfl) dL_law_1093 ?_
        refine x_icmp_eq 1239 dL_law_1096 (by decide) (fun c210 => ?_) (fun c210 => ?_)
        · rw [if_pos c210] at H
          exact t_L_law_b1239 hE ih _ _ _ _ _ _ H
        · rw [if_neg c210] at H
          refine x_iconst (0 : Int32) dL_law_1099 ic_0 ?_
          obtain rfl := Option.some.inj H
          exact x_iretL hE rfl rfl dL_law_1100
      rw [if_neg c205] at H
      by_cases c211 : (v6 &&& (63 : Int32)) = (30 : Int32)
      · rw [if_pos c211] at H
        refine x_tsw (off := 1061) 1101 dL_law_40 c211 (by decide) (by decide) (by decide) (by decide) ?_
        refine x_aload_n 1 rfl dL_law_1101 ?_
        refine x_aload_n 0 rfl dL_law_1102 ?_
        refine x_iload 4 rfl dL_law_1103 ?_
        refine x_iconst (1 : Int32) dL_law_1105 ic_1 ?_
        refine x_iadd dL_law_1106 ?_
        obtain ⟨v212, e212, H⟩ := ob H
        refine x_iald e212 dL_law_1107 ?_
        obtain ⟨c213, H⟩ := oit H
        obtain ⟨a213, g213, e213, H⟩ := obR H
        refine x_callV (M' := mi_X1_told) (n := 1) (As := [.int v212]) (t_X1_told C _ e213) c213 rfl rfl md_X1_told ⟨Nat.le_of_ble_eq_true rfl, Nat.le_of_ble_eq_true rfl⟩ q1635 q1636 q1637 q120 q1638 rfl (Nat.le_of_ble_eq_true rfl) dL_law_1108 ?_
        refine x_aload_n 2 rfl dL_law_1111 ?_
        refine x_aload_n 0 rfl dL_law_1112 ?_
        refine x_iload 4 rfl dL_law_1113 ?_
        refine x_iconst (1 : Int32) dL_law_1115 ic_1 ?_
        refine x_iadd dL_law_1116 ?_
        obtain ⟨v214, e214, H⟩ := ob H
        refine x_iald e214 dL_law_1117 ?_
        obtain ⟨c215, H⟩ := oit H
        obtain ⟨a215, g215, e215, H⟩ := obR H
        refine x_callV (M' := mi_X5_told) (n := 1) (As := [.int v214]) (t_X5_told C _ e215) c215 rfl rfl md_X5_told ⟨Nat.le_of_ble_eq_true rfl, Nat.le_of_ble_eq_true rfl⟩ q2465 q2466 q2467 q131 q2468 rfl (Nat.le_of_ble_eq_true rfl) dL_law_1118 ?_
        refine x_icmp_eq 1239 dL_law_1121 (by decide) (fun c216 => ?_) (fun c216 => ?_)
        · rw [if_pos c216] at H
          exact t_L_law_b1239 hE ih _ _ _ _ _ _ H
        · rw [if_neg c216] at H
          refine x_iconst (0 : Int32) dL_law_1124 ic_0 ?_
          obtain rfl := Option.some.inj H
          exact x_iretL hE rfl rfl dL_law_1125
      rw [if_neg c211] at H
      by_cases c217 : (v6 &&& (63 : Int32)) = (31 : Int32)
      · rw [if_pos c217] at H
        refine x_tsw (off := 1086) 1126 dL_law_40 c217 (by decide) (by decide) (by decide) (by decide) ?_
        refine x_aload_n 1 rfl dL_law_1126 ?_
        obtain ⟨c218, H⟩ := oit H
        obtain ⟨a218, g218, e218, H⟩ := obR H
        refine x_callVX (hh := [(10, 39, 40, 119)]) (M' := mi_X1_sentence) (n := 0) (As := []) (t_X1_sentence C _ e218) c218 rfl rfl md_X1_sentence ⟨Nat.le_of_ble_eq_true rfl, Nat.le_of_ble_eq_true rfl⟩ q1639 q1640 q1641 q120 q1642 rfl (Nat.le_of_ble_eq_true rfl) dL_law_1127 ?_
        refine x_aload_n 2 rfl dL_law_1130 ?_
        obtain ⟨c219, H⟩ := oit H
        obtain ⟨a219, g219, e219, H⟩ := obR H
        refine x_callV (M' := mi_X5_sentence) (n := 0) (As := []) (t_X5_sentence C _ e219) c219 rfl rfl md_X5_sentence ⟨Nat.le_of_ble_eq_true rfl, Nat.le_of_ble_eq_true rfl⟩ q2469 q2470 q2471 q131 q2472 rfl (Nat.le_of_ble_eq_true rfl) dL_law_1131 ?_
        refine x_icmp_eq 1239 dL_law_1134 (by decide) (fun c220 => ?_) (fun c220 => ?_)
        · rw [if_pos c220] at H
          exact t_L_law_b1239 hE ih _ _ _ _ _ _ H
        · rw [if_neg c220] at H
          refine x_iconst (0 : Int32) dL_law_1137 ic_0 ?_
          obtain rfl := Option.some.inj H
          exact x_iretL hE rfl rfl dL_law_1138
      rw [if_neg c217] at H
      by_cases c221 : (v6 &&& (63 : Int32)) = (32 : Int32)
      · rw [if_pos c221] at H
        refine x_tsw (off := 1099) 1139 dL_law_40 c221 (by decide) (by decide) (by decide) (by decide) ?_
        refine x_aload_n 1 rfl dL_law_1139 ?_
        refine x_aload_n 0 rfl dL_law_1140 ?_
        refine x_iload 4 rfl dL_law_1141 ?_
        refine x_iconst (1 : Int32) dL_law_1143 ic_1 ?_
        refine x_iadd dL_law_1144 ?_
        obtain ⟨v222, e222, H⟩ := ob H
        refine x_iald e222 dL_law_1145 ?_
        obtain ⟨c223, H⟩ := oit H
        obtain ⟨a223, g223, e223, H⟩ := obR H
        refine x_callV (M' := mi_X1_said) (n := 1) (As := [.int v222]) (t_X1_said C _ e223) c223 rfl rfl md_X1_said ⟨Nat.le_of_ble_eq_true rfl, Nat.le_of_ble_eq_true rfl⟩ q1797 q1798 q1799 q120 q1800 rfl (Nat.le_of_ble_eq_true rfl) dL_law_1146 ?_
        refine x_aload_n 2 rfl dL_law_1149 ?_
        refine x_aload_n 0 rfl dL_law_1150 ?_
        refine x_iload 4 rfl dL_law_1151 ?_
        refine x_iconst (1 : Int32) dL_law_1153 ic_1 ?_
        refine x_iadd dL_law_1154 ?_
        obtain ⟨v224, e224, H⟩ := ob H
        refine x_iald e224 dL_law_1155 ?_
        obtain ⟨c225, H⟩ := oit H
        obtain ⟨a225, g225, e225, H⟩ := obR H
        refine x_callV (M' := mi_X5_said) (n := 1) (As := [.int v224]) (t_X5_said C _ e225) c225 rfl rfl md_X5_said ⟨Nat.le_of_ble_eq_true rfl, Nat.le_of_ble_eq_true rfl⟩ q2497 q2498 q2499 q131 q2500 rfl (Nat.le_of_ble_eq_true rfl) dL_law_1156 ?_
        refine x_icmp_eq 1239 dL_law_1159 (by decide) (fun c226 => ?_) (fun c226 => ?_)
        · rw [if_pos c226] at H
          exact t_L_law_b1239 hE ih _ _ _ _ _ _ H
        · rw [if_neg c226] at H
          refine x_iconst (0 : Int32) dL_law_1162 ic_0 ?_
          obtain rfl := Option.some.inj H
          exact x_iretL hE rfl rfl dL_law_1163
      rw [if_neg c221] at H
      by_cases c227 : (v6 &&& (63 : Int32)) = (33 : Int32)
      · rw [if_pos c227] at H
        refine x_tsw (off := 1124) 1164 dL_law_40 c227 (by decide) (by decide) (by decide) (by decide) ?_
        refine x_aload_n 1 rfl dL_law_1164 ?_
        refine x_aload_n 0 rfl dL_law_1165 ?_
        refine x_iload 4 rfl dL_law_1166 ?_
        refine x_iconst (1 : Int32) dL_law_1168 ic_1 ?_
        refine x_iadd dL_law_1169 ?_
        obtain ⟨v228, e228, H⟩ := ob H
        refine x_iald e228 dL_law_1170 ?_
        obtain ⟨c229, H⟩ := oit H
        obtain ⟨a229, g229, e229, H⟩ := obR H
        refine x_callV (M' := mi_X1_image) (n := 1) (As := [.int v228]) (t_X1_image C _ e229) c229 rfl rfl md_X1_image ⟨Nat.le_of_ble_eq_true rfl, Nat.le_of_ble_eq_true rfl⟩ q1837 q1838 q1839 q120 q1840 rfl (Nat.le_of_ble_eq_true rfl) dL_law_1171 ?_
        refine x_aload_n 2 rfl dL_law_1174 ?_
        refine x_aload_n 0 rfl dL_law_1175 ?_
        refine x_iload 4 rfl dL_law_1176 ?_
        refine x_iconst (1 : Int32) dL_law_1178 ic_1 ?_
        refine x_iadd dL_law_1179 ?_
        obtain ⟨v230, e230, H⟩ := ob H
        refine x_iald e230 dL_law_1180 ?_
        obtain ⟨c231, H⟩ := oit H
        obtain ⟨a231, g231, e231, H⟩ := obR H
        refine x_callV (M' := mi_X5_image) (n := 1) (As := [.int v230]) (t_X5_image C _ e231) c231 rfl rfl md_X5_image ⟨Nat.le_of_ble_eq_true rfl, Nat.le_of_ble_eq_true rfl⟩ q2513 q2514 q2515 q131 q2516 rfl (Nat.le_of_ble_eq_true rfl) dL_law_1181 ?_
        refine x_icmp_eq 1239 dL_law_1184 (by decide) (fun c232 => ?_) (fun c232 => ?_)
        · rw [if_pos c232] at H
          exact t_L_law_b1239 hE ih _ _ _ _ _ _ H
        · rw [if_neg c232] at H
          refine x_iconst (0 : Int32) dL_law_1187 ic_0 ?_
          obtain rfl := Option.some.inj H
          exact x_iretL hE rfl rfl dL_law_1188
      rw [if_neg c227] at H
      by_cases c233 : (v6 &&& (63 : Int32)) = (34 : Int32)
      · rw [if_pos c233] at H
        refine x_tsw (off := 1149) 1189 dL_law_40 c233 (by decide) (by decide) (by decide) (by decide) ?_
        refine x_aload_n 1 rfl dL_law_1189 ?_
        refine x_aload_n 0 rfl dL_law_1190 ?_
        refine x_iload 4 rfl dL_law_1191 ?_
        refine x_iconst (1 : Int32) dL_law_1193 ic_1 ?_
        refine x_iadd dL_law_1194 ?_
        obtain ⟨v234, e234, H⟩ := ob H
        refine x_iald e234 dL_law_1195 ?_
        obtain ⟨c235, H⟩ := oit H
        obtain ⟨a235, g235, e235, H⟩ := obR H
        refine x_callV (M' := mi_X1_restore) (n := 1) (As := [.int v234]) (t_X1_restore C _ e235) c235 rfl rfl md_X1_restore ⟨Nat.le_of_ble_eq_true rfl, Nat.le_of_ble_eq_true rfl⟩ q1841 q1842 q1843 q120 q1844 rfl (Nat.le_of_ble_eq_true rfl) dL_law_1196 ?_
        refine x_aload_n 2 rfl dL_law_1199 ?_
        refine x_aload_n 0 rfl dL_law_1200 ?_
        refine x_iload 4 rfl dL_law_1201 ?_
        refine x_iconst (1 : Int32) dL_law_1203 ic_1 ?_
        refine x_iadd dL_law_1204 ?_
        obtain ⟨v236, e236, H⟩ := ob H
        refine x_iald e236 dL_law_1205 ?_
        obtain ⟨c237, H⟩ := oit H
        obtain ⟨a237, g237, e237, H⟩ := obR H
        refine x_callV (M' := mi_X5_restore) (n := 1) (As := [.int v236]) (t_X5_restore C _ e237) c237 rfl rfl md_X5_restore ⟨Nat.le_of_ble_eq_true rfl, Nat.le_of_ble_eq_true rfl⟩ q2517 q2518 q2519 q131 q2520 rfl (Nat.le_of_ble_eq_true rfl) dL_law_1206 ?_
        refine x_icmp_eq 1239 dL_law_1209 (by decide) (fun c238 => ?_) (fun c238 => ?_)
        · rw [if_pos c238] at H
          exact t_L_law_b1239 hE ih _ _ _ _ _ _ H
        · rw [if_neg c238] at H
          refine x_iconst (0 : Int32) dL_law_1212 ic_0 ?_
          obtain rfl := Option.some.inj H
          exact x_iretL hE rfl rfl dL_law_1213
      rw [if_neg c233] at H
      by_cases c239 : (v6 &&& (63 : Int32)) = (35 : Int32)
      · rw [if_pos c239] at H
        refine x_tsw (off := 1174) 1214 dL_law_40 c239 (by decide) (by decide) (by decide) (by decide) ?_
        refine x_aload_n 1 rfl dL_law_1214 ?_
        refine x_aload_n 0 rfl dL_law_1215 ?_
        refine x_iload 4 rfl dL_law_1216 ?_
        refine x_iconst (1 : Int32) dL_law_1218 ic_1 ?_
        refine x_iadd dL_law_1219 ?_
        obtain ⟨v240, e240, H⟩ := ob H
        refine x_iald e240 dL_law_1220 ?_
        obtain ⟨c241, H⟩ := oit H
        obtain ⟨a241, g241, e241, H⟩ := obR H
        refine x_callV (M' := mi_X1_count) (n := 1) (As := [.int v240]) (t_X1_count C _ e241) c241 rfl rfl md_X1_count ⟨Nat.le_of_ble_eq_true rfl, Nat.le_of_ble_eq_true rfl⟩ q1845 q1846 q1847 q120 q1848 rfl (Nat.le_of_ble_eq_true rfl) dL_law_1221 ?_
        refine x_aload_n 2 rfl dL_law_1224 ?_
        refine x_aload_n 0 rfl dL_law_1225 ?_
        refine x_iload 4 rfl dL_law_1226 ?_
        refine x_iconst (1 : Int32) dL_law_1228 ic_1 ?_
        refine x_iadd dL_law_1229 ?_
        obtain ⟨v242, e242, H⟩ := ob H
        refine x_iald e242 dL_law_1230 ?_
        obtain ⟨c243, H⟩ := oit H
        obtain ⟨a243, g243, e243, H⟩ := obR H
        refine x_callV (M' := mi_X5_count) (n := 1) (As := [.int v242]) (t_X5_count C _ e243) c243 rfl rfl md_X5_count ⟨Nat.le_of_ble_eq_true rfl, Nat.le_of_ble_eq_true rfl⟩ q2521 q2522 q2523 q131 q2524 rfl (Nat.le_of_ble_eq_true rfl) dL_law_1231 ?_
        refine x_icmp_eq 1239 dL_law_1234 (by decide) (fun c244 => ?_) (fun c244 => ?_)
        · rw [if_pos c244] at H
          exact t_L_law_b1239 hE ih _ _ _ _ _ _ H
        · rw [if_neg c244] at H
          refine x_iconst (0 : Int32) dL_law_1237 ic_0 ?_
          obtain rfl := Option.some.inj H
          exact x_iretL hE rfl rfl dL_law_1238
      rw [if_neg c239] at H
      refine x_tswd 1239 dL_law_40 (xts0_36 c7 c21 c27 c31 c35 c47 c57 c65 c71 c81 c89 c95 c105 c111 c115 c121 c125 c129 c135 c139 c147 c153 c159 c167 c171 c175 c181 c187 c195 c205 c211 c217 c221 c227 c233 c239) (by decide) ?_
      exact t_L_law_b1239 hE ih _ _ _ _ _ _ H
def f_L_law (r0 : Nat) (h : mH) : Option (Int32 × mH) := if 6 ≤ h.2.1 then bR (f_X1_init h.2.1  (xnw h (.inr (0, [.ref 0, .int 0, .int 0, .ref 0, .ref 0, .ref 0, .ref 0, .ref 0, .int 0, .ref 0, .ref 0, .int 0, .int 0, .int 0, .ref 0, .ref 0, .int 0, .int 0, .ref 0, .ref 0, .ref 0])) 21)) fun a1 g1 => if 6 ≤ g1.2.1 then bR (f_X5_init g1.2.1  (xnw g1 (.inr (4, [.int 0, .ref 0, .int 0, .int 0, .int 0, .int 0, .ref 0, .ref 0, .ref 0, .ref 0, .ref 0, .int 0, .int 0, .int 0, .int 0, .int 0, .int 0, .long 0, .int 0, .int 0, .int 0, .ref 0, .ref 0, .int 0, .ref 0, .ref 0, .ref 0, .int 0, .int 0, .int 0, .int 0, .ref 0, .ref 0, .int 0, .int 0, .int 0, .ref 0, .int 0, .int 0, .int 0, .ref 0, .int 0, .ref 0, .int 0, .int 0, .int 0, .int 0, .int 0, .ref 0, .ref 0, .ref 0, .ref 0])) 52)) fun a2 g2 => bR (nA .long g2 (1 : Int32)) fun a3 g3 => f_L_law_L23  xFu r0 h.2.1 g1.2.1 a3 (0 : Int32) g3 else none else none
theorem t_L_law {G : xG} {C : xC} {r0 : Nat} (h : mH) {o : Int32 × mH} (hE : xEndL G C o) (H : f_L_law r0 h = some o) : X G C mi_L_law 0 [(0, .ref r0)] [] h := by
  unfold f_L_law at H
  refine x_new (fs := [.ref 0, .int 0, .int 0, .ref 0, .ref 0, .ref 0, .ref 0, .ref 0, .int 0, .ref 0, .ref 0, .int 0, .int 0, .int 0, .ref 0, .ref 0, .int 0, .int 0, .ref 0, .ref 0, .ref 0]) ci_0 q164 q165 q120 (nf_X1 G) rfl dL_law_0 ?_
  refine x_dup dL_law_3 rfl ?_
  obtain ⟨c1, H⟩ := oit H
  obtain ⟨a1, g1, e1, H⟩ := obR H
  refine x_callI (M' := mi_X1_init) (n := 0) (As := []) (t_X1_init C _ e1) c1 md_X1_init ⟨Nat.le_of_ble_eq_true rfl, Nat.le_of_ble_eq_true rfl⟩ rfl rfl q166 q167 q120 q168 rfl (Nat.le_of_ble_eq_true rfl) dL_law_4 ?_
  refine x_astore_n [1, 0] dL_law_7 (by decide) rfl ?_
  refine x_new (fs := [.int 0, .ref 0, .int 0, .int 0, .int 0, .int 0, .ref 0, .ref 0, .ref 0, .ref 0, .ref 0, .int 0, .int 0, .int 0, .int 0, .int 0, .int 0, .long 0, .int 0, .int 0, .int 0, .ref 0, .ref 0, .int 0, .ref 0, .ref 0, .ref 0, .int 0, .int 0, .int 0, .int 0, .ref 0, .ref 0, .int 0, .int 0, .int 0, .ref 0, .int 0, .int 0, .int 0, .ref 0, .int 0, .ref 0, .int 0, .int 0, .int 0, .int 0, .int 0, .ref 0, .ref 0, .ref 0, .ref 0]) ci_4 q1900 q1894 q131 (nf_X5 G) rfl dL_law_8 ?_
  refine x_dup dL_law_11 rfl ?_
  obtain ⟨c2, H⟩ := oit H
  obtain ⟨a2, g2, e2, H⟩ := obR H
  refine x_callI (M' := mi_X5_init) (n := 0) (As := []) (t_X5_init C _ e2) c2 md_X5_init ⟨Nat.le_of_ble_eq_true rfl, Nat.le_of_ble_eq_true rfl⟩ rfl rfl q1901 q1902 q131 q1903 rfl (Nat.le_of_ble_eq_true rfl) dL_law_12 ?_
  refine x_astore_n [1, 2, 0] dL_law_15 (by decide) rfl ?_
  refine x_iconst (1 : Int32) dL_law_16 ic_1 ?_
  obtain ⟨a3, g3, e3, H⟩ := obR H
  refine x_newa (at_ := .long) (ty := .long) rfl (by decide) q2090 e3 dL_law_17 ?_
  refine x_astore_n [1, 2, 3, 0] dL_law_19 (by decide) rfl ?_
  refine x_iconst (0 : Int32) dL_law_20 ic_0 ?_
  refine x_istore [1, 2, 3, 4, 0] dL_law_21 (by decide) rfl ?_
  exact t_L_law_L23 hE  xFu _ _ _ _ _ _ H
