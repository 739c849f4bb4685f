set_option maxRecDepth 100000
set_option maxHeartbeats 4000000
abbrev mi_X1_room : xM := (cX1_room, yX1_room, 3, some .int, 8)
theorem md_X1_room : xMD mi_X1_room 2 := ⟨by decide, by decide, by decide +kernel⟩
def f_X1_room (r0 : Nat) (x1 : Int32) (x2 : Int32) (h : mH) : Option (Int32 × mH) := (gFr [0] 4 h r0).bind fun v1 => if gC h v1 = 2 then bR (f_X3_may v1 x1 x2 h) fun a2 g2 => if a2 = 0 then some ((0 : Int32), g2) else (gFr [0] 4 g2 r0).bind fun v4 => if gC g2 v4 = 2 then bR (f_X3_areFoes v4 x1 x2 g2) fun a5 g5 => if a5 = 0 then (gFr [0] 3 g5 r0).bind fun v7 => (gFi [1] 1 g5 v7).bind fun v8 => (gFr [0] 4 g5 r0).bind fun v9 => (gFr [2] 9 g5 v9).bind fun v10 => (aI .int g5 v10 (((7 : Int32) * x1) + x2)).bind fun v11 => some ((v8 - v11), g5) else some ((1000 : Int32), g5) else none else none
theorem t_X1_room {G : xG} (C0 : xC) {l : Launch} {r0 : Nat} {x1 : Int32} {x2 : Int32} (h : mH) {o : Int32 × mH} (H : f_X1_room r0 x1 x2 h = some o) : XR G l mi_X1_room [.ref r0, .int x1, .int x2] h (some (.int o.1)) o.2 := by
  refine XR.of C0 (by decide) (Nat.le_of_ble_eq_true rfl) (fun C _ _ _ hE => ?_)
  show X G C mi_X1_room 0 [(0, .ref r0), (1, .int x1), (2, .int x2)] [] h
  unfold f_X1_room at H
  refine x_aload_n 0 rfl dX1_room_0 ?_
  obtain ⟨v1, e1, H⟩ := ob H
  refine x_getf fg_X1_36 (gFr_spec e1) dX1_room_1 ?_
  refine x_iload_n 1 rfl dX1_room_4 ?_
  refine x_iload_n 2 rfl dX1_room_5 ?_
  obtain ⟨c2, H⟩ := oit H
  obtain ⟨a2, g2, e2, H⟩ := obR H
  refine x_callV (M' := mi_X3_may) (n := 2) (As := [.int x1, .int x2]) (t_X3_may C _ e2) c2 rfl rfl md_X3_may ⟨Nat.le_of_ble_eq_true rfl, Nat.le_of_ble_eq_true rfl⟩ q1383 q1232 q1233 q125 q1234 rfl (Nat.le_of_ble_eq_true rfl) dX1_room_6 ?_
  refine x_if_ne 14 dX1_room_9 (by decide) (fun c3 => ?_) (fun c3 => ?_)
  · rw [if_neg c3] at H
    refine x_aload_n 0 rfl dX1_room_14 ?_
    obtain ⟨v4, e4, H⟩ := ob H
    refine x_getf fg_X1_36 (gFr_spec e4) dX1_room_15 ?_
    refine x_iload_n 1 rfl dX1_room_18 ?_
    refine x_iload_n 2 rfl dX1_room_19 ?_
    obtain ⟨c5, H⟩ := oit H
    obtain ⟨a5, g5, e5, H⟩ := obR H
    refine x_callV (M' := mi_X3_areFoes) (n := 2) (As := [.int x1, .int x2]) (t_X3_areFoes C _ e5) c5 rfl rfl md_X3_areFoes ⟨Nat.le_of_ble_eq_true rfl, Nat.le_of_ble_eq_true rfl⟩ q1384 q1244 q1245 q125 q1246 rfl (Nat.le_of_ble_eq_true rfl) dX1_room_20 ?_
    refine x_if_eq 32 dX1_room_23 (by decide) (fun c6 => ?_) (fun c6 => ?_)
    · rw [if_pos c6] at H
      refine x_aload_n 0 rfl dX1_room_32 ?_
      obtain ⟨v7, e7, H⟩ := ob H
      refine x_getf fg_X1_25 (gFr_spec e7) dX1_room_33 ?_
      obtain ⟨v8, e8, H⟩ := ob H
      refine x_getf fg_X1_266 (gFi_spec e8) dX1_room_36 ?_
      refine x_aload_n 0 rfl dX1_room_39 ?_
      obtain ⟨v9, e9, H⟩ := ob H
      refine x_getf fg_X1_36 (gFr_spec e9) dX1_room_40 ?_
      obtain ⟨v10, e10, H⟩ := ob H
      refine x_getf fg_X1_194 (gFr_spec e10) dX1_room_43 ?_
      refine x_bipush (7 : Int32) dX1_room_46 bi_7 ?_
      refine x_iload_n 1 rfl dX1_room_48 ?_
      refine x_imul dX1_room_49 ?_
      refine x_iload_n 2 rfl dX1_room_50 ?_
      refine x_iadd dX1_room_51 ?_
      obtain ⟨v11, e11, H⟩ := ob H
      refine x_iald e11 dX1_room_52 ?_
      refine x_isub dX1_room_53 ?_
      obtain rfl := Option.some.inj H
      exact x_iret hE rfl rfl dX1_room_54
    · rw [if_neg c6] at H
      refine x_sipush (1000 : Int32) dX1_room_26 si_1000 ?_
      refine x_goto (tgt := 54) dX1_room_29 (by decide) ?_
      obtain rfl := Option.some.inj H
      exact x_iret hE rfl rfl dX1_room_54
  · rw [if_pos c3] at H
    refine x_iconst (0 : Int32) dX1_room_12 ic_0 ?_
    obtain rfl := Option.some.inj H
    exact x_iret hE rfl rfl dX1_room_13
abbrev mi_X1_comes (d : Nat) : xM := (cX1_comes, yX1_comes, 4, some .boolean, 9 + d)
theorem md_X1_comes (d : Nat) : xMD (mi_X1_comes d) 1 := ⟨by first | decide | (dsimp only [mi_X1_comes]; decide), by first | decide | (dsimp only [mi_X1_comes]; decide), by first | decide +kernel | (dsimp only [mi_X1_comes]; decide +kernel)⟩
def f_X1_comes_b65 (rc_X1_comes : Nat → Int32 → mH → Option (Int32 × mH)) (r0 : Nat) (x1 : Int32) (x2 : Int32) (h : mH) : Option (Int32 × mH) := (gFr [0] 10 h r0).bind fun v1 => (aI .int h v1 x2).bind fun v2 => (sI .int h v1 x2 (v2 - (1 : Int32))).bind fun h3 => (gFr [0] 9 h3 r0).bind fun v4 => (aI .int h3 v4 (((7 : Int32) * x1) + x2)).bind fun v5 => (sI .int h3 v4 (((7 : Int32) * x1) + x2) (v5 + (1 : Int32))).bind fun h6 => some ((1 : Int32), h6)
theorem t_X1_comes_b65 {G : xG} {C : xC} {d : Nat} {rc_X1_comes : Nat → Int32 → mH → Option (Int32 × mH)} (hrc_X1_comes : ∀ {l : Launch} {r0 : Nat} {x1 : Int32} (h : mH) {o : Int32 × mH}, rc_X1_comes r0 x1 h = some o → XR G l (mi_X1_comes d) [.ref r0, .int x1] h (some (.int o.1)) o.2) {o : Int32 × mH} (hE : xEnd G C (some (.int o.1)) o.2) (r0 : Nat) (x1 : Int32) (x2 : Int32) (h : mH) (H : f_X1_comes_b65 rc_X1_comes r0 x1 x2 h = some o) : X G C (mi_X1_comes (d + 1)) 65 [(0, .ref r0), (1, .int x1), (2, .int x2)] [] h := by
  unfold f_X1_comes_b65 at H
  refine x_aload_n 0 rfl dX1_comes_65 ?_
  obtain ⟨v1, e1, H⟩ := ob H
  refine x_getf fg_X1_51 (gFr_spec e1) dX1_comes_66 ?_
  refine x_iload_n 2 rfl dX1_comes_69 ?_
  refine x_dup2 dX1_comes_70 rfl rfl ?_
  obtain ⟨v2, e2, H⟩ := ob H
  refine x_iald e2 dX1_comes_71 ?_
  refine x_iconst (1 : Int32) dX1_comes_72 ic_1 ?_
  refine x_isub dX1_comes_73 ?_
  obtain ⟨h3, e3, H⟩ := ob H
  refine x_iast e3 dX1_comes_74 ?_
  refine x_aload_n 0 rfl dX1_comes_75 ?_
  obtain ⟨v4, e4, H⟩ := ob H
  refine x_getf fg_X1_47 (gFr_spec e4) dX1_comes_76 ?_
  refine x_bipush (7 : Int32) dX1_comes_79 bi_7 ?_
  refine x_iload_n 1 rfl dX1_comes_81 ?_
  refine x_imul dX1_comes_82 ?_
  refine x_iload_n 2 rfl dX1_comes_83 ?_
  refine x_iadd dX1_comes_84 ?_
  refine x_dup2 dX1_comes_85 rfl rfl ?_
  obtain ⟨v5, e5, H⟩ := ob H
  refine x_iald e5 dX1_comes_86 ?_
  refine x_iconst (1 : Int32) dX1_comes_87 ic_1 ?_
  refine x_iadd dX1_comes_88 ?_
  obtain ⟨h6, e6, H⟩ := ob H
  refine x_iast e6 dX1_comes_89 ?_
  refine x_iconst (1 : Int32) dX1_comes_90 ic_1 ?_
  obtain rfl := Option.some.inj H
  exact x_iret hE rfl rfl dX1_comes_91
def f_X1_comes_b132 (rc_X1_comes : Nat → Int32 → mH → Option (Int32 × mH)) (r0 : Nat) (x1 : Int32) (x2 : Int32) (x3 : Int32) (h : mH) : Option (Int32 × mH) := (gFr [0] 9 h r0).bind fun v7 => (aI .int h v7 (((7 : Int32) * x3) + x2)).bind fun v8 => (sI .int h v7 (((7 : Int32) * x3) + x2) (v8 - (1 : Int32))).bind fun h9 => (gFr [0] 9 h9 r0).bind fun v10 => (aI .int h9 v10 (((7 : Int32) * x1) + x2)).bind fun v11 => (sI .int h9 v10 (((7 : Int32) * x1) + x2) (v11 + (1 : Int32))).bind fun h12 => some ((1 : Int32), h12)
theorem t_X1_comes_b132 {G : xG} {C : xC} {d : Nat} {rc_X1_comes : Nat → Int32 → mH → Option (Int32 × mH)} (hrc_X1_comes : ∀ {l : Launch} {r0 : Nat} {x1 : Int32} (h : mH) {o : Int32 × mH}, rc_X1_comes r0 x1 h = some o → XR G l (mi_X1_comes d) [.ref r0, .int x1] h (some (.int o.1)) o.2) {o : Int32 × mH} (hE : xEnd G C (some (.int o.1)) o.2) (r0 : Nat) (x1 : Int32) (x2 : Int32) (x3 : Int32) (h : mH) (H : f_X1_comes_b132 rc_X1_comes r0 x1 x2 x3 h = some o) : X G C (mi_X1_comes (d + 1)) 132 [(0, .ref r0), (1, .int x1), (2, .int x2), (3, .int x3)] [] h := by
  unfold f_X1_comes_b132 at H
  refine x_aload_n 0 rfl dX1_comes_132 ?_
  obtain ⟨v7, e7, H⟩ := ob H
  refine x_getf fg_X1_47 (gFr_spec e7) dX1_comes_133 ?_
  refine x_bipush (7 : Int32) dX1_comes_136 bi_7 ?_
  refine x_iload_n 3 rfl dX1_comes_138 ?_
  refine x_imul dX1_comes_139 ?_
  refine x_iload_n 2 rfl dX1_comes_140 ?_
  refine x_iadd dX1_comes_141 ?_
  refine x_dup2 dX1_comes_142 rfl rfl ?_
  obtain ⟨v8, e8, H⟩ := ob H
  refine x_iald e8 dX1_comes_143 ?_
  refine x_iconst (1 : Int32) dX1_comes_144 ic_1 ?_
  refine x_isub dX1_comes_145 ?_
  obtain ⟨h9, e9, H⟩ := ob H
  refine x_iast e9 dX1_comes_146 ?_
  refine x_aload_n 0 rfl dX1_comes_147 ?_
  obtain ⟨v10, e10, H⟩ := ob H
  refine x_getf fg_X1_47 (gFr_spec e10) dX1_comes_148 ?_
  refine x_bipush (7 : Int32) dX1_comes_151 bi_7 ?_
  refine x_iload_n 1 rfl dX1_comes_153 ?_
  refine x_imul dX1_comes_154 ?_
  refine x_iload_n 2 rfl dX1_comes_155 ?_
  refine x_iadd dX1_comes_156 ?_
  refine x_dup2 dX1_comes_157 rfl rfl ?_
  obtain ⟨v11, e11, H⟩ := ob H
  refine x_iald e11 dX1_comes_158 ?_
  refine x_iconst (1 : Int32) dX1_comes_159 ic_1 ?_
  refine x_iadd dX1_comes_160 ?_
  obtain ⟨h12, e12, H⟩ := ob H
  refine x_iast e12 dX1_comes_161 ?_
  refine x_iconst (1 : Int32) dX1_comes_162 ic_1 ?_
  obtain rfl := Option.some.inj H
  exact x_iret hE rfl rfl dX1_comes_163
def f_X1_comes_b170 (rc_X1_comes : Nat → Int32 → mH → Option (Int32 × mH)) (kb : Nat → Int32 → Int32 → mH → Option (Int32 × mH)) (k65 : Nat → Int32 → Int32 → mH → Option (Int32 × mH)) (k132 : Nat → Int32 → Int32 → Int32 → mH → Option (Int32 × mH)) (r0 : Nat) (x1 : Int32) (x2 : Int32) (h : mH) : Option (Int32 × mH) := kb r0 x1 (x2 + (1 : Int32)) h
theorem t_X1_comes_b170 {G : xG} {C : xC} {d : Nat} {rc_X1_comes : Nat → Int32 → mH → Option (Int32 × mH)} (hrc_X1_comes : ∀ {l : Launch} {r0 : Nat} {x1 : Int32} (h : mH) {o : Int32 × mH}, rc_X1_comes r0 x1 h = some o → XR G l (mi_X1_comes d) [.ref r0, .int x1] h (some (.int o.1)) o.2) {o : Int32 × mH} (hE : xEnd G C (some (.int o.1)) o.2) {kb : Nat → Int32 → Int32 → mH → Option (Int32 × mH)} (hkb : ∀ (r0 : Nat) (x1 : Int32) (x2 : Int32) (h : mH), kb r0 x1 x2 h = some o → X G C (mi_X1_comes (d + 1)) 2 [(0, .ref r0), (1, .int x1), (2, .int x2)] [] h) {k65 : Nat → Int32 → Int32 → mH → Option (Int32 × mH)} (hk65 : ∀ (r0 : Nat) (x1 : Int32) (x2 : Int32) (h : mH), k65 r0 x1 x2 h = some o → X G C (mi_X1_comes (d + 1)) 65 [(0, .ref r0), (1, .int x1), (2, .int x2)] [] h) {k132 : Nat → Int32 → Int32 → Int32 → mH → Option (Int32 × mH)} (hk132 : ∀ (r0 : Nat) (x1 : Int32) (x2 : Int32) (x3 : Int32) (h : mH), k132 r0 x1 x2 x3 h = some o → X G C (mi_X1_comes (d + 1)) 132 [(0, .ref r0), (1, .int x1), (2, .int x2), (3, .int x3)] [] h) (r0 : Nat) (x1 : Int32) (x2 : Int32) (h : mH) (H : f_X1_comes_b170 rc_X1_comes kb k65 k132 r0 x1 x2 h = some o) : X G C (mi_X1_comes (d + 1)) 170 [(0, .ref r0), (1, .int x1), (2, .int x2)] [] h := by
  unfold f_X1_comes_b170 at H
  refine x_iinc 2 (x2 + (1 : Int32)) [1, 2, 0] dX1_comes_170 rfl (ii_1 _) (by first | decide | (dsimp only [mi_X1_comes]; decide)) rfl ?_
  refine x_goto (tgt := 2) dX1_comes_173 (by first | decide | (dsimp only [mi_X1_comes]; decide)) ?_
  exact hkb _ _ _ _ H
def f_X1_comes_b164 (rc_X1_comes : Nat → Int32 → mH → Option (Int32 × mH)) (kb : Nat → Int32 → Int32 → Int32 → mH → Option (Int32 × mH)) (k132 : Nat → Int32 → Int32 → Int32 → mH → Option (Int32 × mH)) (k170 : Nat → Int32 → Int32 → mH → Option (Int32 × mH)) (r0 : Nat) (x1 : Int32) (x2 : Int32) (x3 : Int32) (h : mH) : Option (Int32 × mH) := kb r0 x1 x2 (x3 + (1 : Int32)) h
theorem t_X1_comes_b164 {G : xG} {C : xC} {d : Nat} {rc_X1_comes : Nat → Int32 → mH → Option (Int32 × mH)} (hrc_X1_comes : ∀ {l : Launch} {r0 : Nat} {x1 : Int32} (h : mH) {o : Int32 × mH}, rc_X1_comes r0 x1 h = some o → XR G l (mi_X1_comes d) [.ref r0, .int x1] h (some (.int o.1)) o.2) {o : Int32 × mH} (hE : xEnd G C (some (.int o.1)) o.2) {kb : Nat → Int32 → Int32 → Int32 → mH → Option (Int32 × mH)} (hkb : ∀ (r0 : Nat) (x1 : Int32) (x2 : Int32) (x3 : Int32) (h : mH), kb r0 x1 x2 x3 h = some o → X G C (mi_X1_comes (d + 1)) 94 [(0, .ref r0), (1, .int x1), (2, .int x2), (3, .int x3)] [] h) {k132 : Nat → Int32 → Int32 → Int32 → mH → Option (Int32 × mH)} (hk132 : ∀ (r0 : Nat) (x1 : Int32) (x2 : Int32) (x3 : Int32) (h : mH), k132 r0 x1 x2 x3 h = some o → X G C (mi_X1_comes (d + 1)) 132 [(0, .ref r0), (1, .int x1), (2, .int x2), (3, .int x3)] [] h) {k170 : Nat → Int32 → Int32 → mH → Option (Int32 × mH)} (hk170 : ∀ (r0 : Nat) (x1 : Int32) (x2 : Int32) (h : mH), k170 r0 x1 x2 h = some o → X G C (mi_X1_comes (d + 1)) 170 [(0, .ref r0), (1, .int x1), (2, .int x2)] [] h) (r0 : Nat) (x1 : Int32) (x2 : Int32) (x3 : Int32) (h : mH) (H : f_X1_comes_b164 rc_X1_comes kb k132 k170 r0 x1 x2 x3 h = some o) : X G C (mi_X1_comes (d + 1)) 164 [(0, .ref r0), (1, .int x1), (2, .int x2), (3, .int x3)] [] h := by
  unfold f_X1_comes_b164 at H
  refine x_iinc 3 (x3 + (1 : Int32)) [1, 2, 3, 0] dX1_comes_164 rfl (ii_1 _) (by first | decide | (dsimp only [mi_X1_comes]; decide)) rfl ?_
  refine x_goto (tgt := 94) dX1_comes_167 (by first | decide | (dsimp only [mi_X1_comes]; decide)) ?_
  exact hkb _ _ _ _ _ H
def f_X1_comes_L94 (rc_X1_comes : Nat → Int32 → mH → Option (Int32 × mH)) (k132 : Nat → Int32 → Int32 → Int32 → mH → Option (Int32 × mH)) (k170 : Nat → Int32 → Int32 → mH → Option (Int32 × mH)) : Nat → Nat → Int32 → Int32 → Int32 → mH → Option (Int32 × mH)
  | 0, _, _, _, _, _ => none
  | n + 1, r0, x1, x2, x3, h => if gC h r0 = 0 then bR (f_X1_persons r0  h) fun a27 g27 => if a27 ≤ x3 then k170 r0 x1 x2 g27 else if x3 = x1 then f_X1_comes_b164 rc_X1_comes (f_X1_comes_L94 rc_X1_comes k132 k170 n) k132 k170 r0 x1 x2 x3 g27 else (gFr [0] 9 g27 r0).bind fun v30 => (aI .int g27 v30 (((7 : Int32) * x3) + x2)).bind fun v31 => if v31 = 0 then f_X1_comes_b164 rc_X1_comes (f_X1_comes_L94 rc_X1_comes k132 k170 n) k132 k170 r0 x1 x2 x3 g27 else if gC g27 r0 = 0 then bR (rc_X1_comes r0 x3 g27) fun a33 g33 => if a33 = 0 then f_X1_comes_b164 rc_X1_comes (f_X1_comes_L94 rc_X1_comes k132 k170 n) k132 k170 r0 x1 x2 x3 g33 else k132 r0 x1 x2 x3 g33 else none else none
theorem t_X1_comes_L94 {G : xG} {C : xC} {d : Nat} {rc_X1_comes : Nat → Int32 → mH → Option (Int32 × mH)} (hrc_X1_comes : ∀ {l : Launch} {r0 : Nat} {x1 : Int32} (h : mH) {o : Int32 × mH}, rc_X1_comes r0 x1 h = some o → XR G l (mi_X1_comes d) [.ref r0, .int x1] h (some (.int o.1)) o.2) {o : Int32 × mH} (hE : xEnd G C (some (.int o.1)) o.2) {k132 : Nat → Int32 → Int32 → Int32 → mH → Option (Int32 × mH)} (hk132 : ∀ (r0 : Nat) (x1 : Int32) (x2 : Int32) (x3 : Int32) (h : mH), k132 r0 x1 x2 x3 h = some o → X G C (mi_X1_comes (d + 1)) 132 [(0, .ref r0), (1, .int x1), (2, .int x2), (3, .int x3)] [] h) {k170 : Nat → Int32 → Int32 → mH → Option (Int32 × mH)} (hk170 : ∀ (r0 : Nat) (x1 : Int32) (x2 : Int32) (h : mH), k170 r0 x1 x2 h = some o → X G C (mi_X1_comes (d + 1)) 170 [(0, .ref r0), (1, .int x1), (2, .int x2)] [] h) : ∀ (n : Nat) (r0 : Nat) (x1 : Int32) (x2 : Int32) (x3 : Int32) (h : mH), f_X1_comes_L94 rc_X1_comes k132 k170 n r0 x1 x2 x3 h = some o → X G C (mi_X1_comes (d + 1)) 94 [(0, .ref r0), (1, .int x1), (2, .int x2), (3, .int x3)] [] h := by
  intro n
  induction n with
  | zero => intro r0 x1 x2 x3 h H; exact nomatch (show (none : Option (Int32 × mH)) = some o from H)
  | succ n ih =>
    intro r0 x1 x2 x3 h H
    rw [f_X1_comes_L94] at H
    refine x_iload_n 3 rfl dX1_comes_94 ?_
    refine x_aload_n 0 rfl dX1_comes_95 ?_
    obtain ⟨c27, H⟩ := oit H
    obtain ⟨a27, g27, e27, H⟩ := obR H
    refine x_callV (M' := mi_X1_persons) (n := 0) (As := []) (t_X1_persons C _ e27) c27 rfl rfl md_X1_persons ⟨by show 2 + 1 ≤ 9 + (d + 1); omega, Nat.le_of_ble_eq_true rfl⟩ q1140 q1142 qs22 q120 q1143 rfl (Nat.le_of_ble_eq_true rfl) dX1_comes_96 ?_
    refine x_icmp_ge 170 dX1_comes_99 (by first | decide | (dsimp only [mi_X1_comes]; decide)) (fun c28 => ?_) (fun c28 => ?_)
    · rw [if_pos c28] at H
      refine X.sub [0, 1, 2] rfl ?_
      exact hk170 _ _ _ _ H
    · rw [if_neg c28] at H
      refine x_iload_n 3 rfl dX1_comes_102 ?_
      refine x_iload_n 1 rfl dX1_comes_103 ?_
      refine x_icmp_eq 164 dX1_comes_104 (by first | decide | (dsimp only [mi_X1_comes]; decide)) (fun c29 => ?_) (fun c29 => ?_)
      · rw [if_pos c29] at H
        exact t_X1_comes_b164 hrc_X1_comes hE ih hk132 hk170 _ _ _ _ _ H
      · rw [if_neg c29] at H
        refine x_aload_n 0 rfl dX1_comes_107 ?_
        obtain ⟨v30, e30, H⟩ := ob H
        refine x_getf fg_X1_47 (gFr_spec e30) dX1_comes_108 ?_
        refine x_bipush (7 : Int32) dX1_comes_111 bi_7 ?_
        refine x_iload_n 3 rfl dX1_comes_113 ?_
        refine x_imul dX1_comes_114 ?_
        refine x_iload_n 2 rfl dX1_comes_115 ?_
        refine x_iadd dX1_comes_116 ?_
        obtain ⟨v31, e31, H⟩ := ob H
        refine x_iald e31 dX1_comes_117 ?_
        refine x_if_eq 164 dX1_comes_118 (by first | decide | (dsimp only [mi_X1_comes]; decide)) (fun c32 => ?_) (fun c32 => ?_)
        · rw [if_pos c32] at H
          exact t_X1_comes_b164 hrc_X1_comes hE ih hk132 hk170 _ _ _ _ _ H
        · rw [if_neg c32] at H
          refine x_aload_n 0 rfl dX1_comes_121 ?_
          refine x_iload_n 3 rfl dX1_comes_122 ?_
          obtain ⟨c33, H⟩ := oit H
          obtain ⟨a33, g33, e33, H⟩ := obR H
          refine x_callV (M' := (mi_X1_comes d)) (n := 1) (As := [.int x3]) (hrc_X1_comes _ e33) c33 rfl rfl (md_X1_comes d) ⟨by show 9 + d + 1 ≤ 9 + (d + 1); omega, Nat.le_of_ble_eq_true rfl⟩ q1374 q1376 qs26 q120 q1377 rfl (Nat.le_of_ble_eq_true rfl) dX1_comes_123 ?_
          refine x_if_ne 132 dX1_comes_126 (by first | decide | (dsimp only [mi_X1_comes]; decide)) (fun c34 => ?_) (fun c34 => ?_)
          · rw [if_neg c34] at H
            exact hk132 _ _ _ _ _ H
          · rw [if_pos c34] at H
            refine x_goto (tgt := 164) dX1_comes_129 (by first | decide | (dsimp only [mi_X1_comes]; decide)) ?_
            exact t_X1_comes_b164 hrc_X1_comes hE ih hk132 hk170 _ _ _ _ _ H
def f_X1_comes_L2 (rc_X1_comes : Nat → Int32 → mH → Option (Int32 × mH)) (k65 : Nat → Int32 → Int32 → mH → Option (Int32 × mH)) (k132 : Nat → Int32 → Int32 → Int32 → mH → Option (Int32 × mH)) : Nat → Nat → Int32 → Int32 → mH → Option (Int32 × mH)
  | 0, _, _, _, _ => none
  | n + 1, r0, x1, x2, h => if gC h r0 = 0 then bR (f_X1_persons r0  h) fun a13 g13 => if a13 ≤ x2 then some ((0 : Int32), g13) else (gFi [0] 11 g13 r0).bind fun v15 => bR (f_X1_isOf v15 x2 g13) fun a16 g16 => if a16 = 0 then (gFr [0] 9 g16 r0).bind fun v18 => (aI .int g16 v18 (((7 : Int32) * x1) + x2)).bind fun v19 => if gC g16 r0 = 0 then bR (f_X1_room r0 x1 x2 g16) fun a20 g20 => if v19 < a20 then (gFi [0] 11 g20 r0).bind fun v22 => (pF [0] 11 (.int (v22 ||| ((1 : Int32) <<< (x2 &&& 31)))) g20 r0).bind fun h23 => (gFr [0] 10 h23 r0).bind fun v24 => (aI .int h23 v24 x2).bind fun v25 => if v25 ≤ 0 then f_X1_comes_L94 rc_X1_comes k132 (f_X1_comes_b170 rc_X1_comes (f_X1_comes_L2 rc_X1_comes k65 k132 n) k65 k132) xFu r0 x1 x2 (0 : Int32) h23 else k65 r0 x1 x2 h23 else f_X1_comes_b170 rc_X1_comes (f_X1_comes_L2 rc_X1_comes k65 k132 n) k65 k132 r0 x1 x2 g20 else none else f_X1_comes_b170 rc_X1_comes (f_X1_comes_L2 rc_X1_comes k65 k132 n) k65 k132 r0 x1 x2 g16 else none
theorem t_X1_comes_L2 {G : xG} {C : xC} {d : Nat} {rc_X1_comes : Nat → Int32 → mH → Option (Int32 × mH)} (hrc_X1_comes : ∀ {l : Launch} {r0 : Nat} {x1 : Int32} (h : mH) {o : Int32 × mH}, rc_X1_comes r0 x1 h = some o → XR G l (mi_X1_comes d) [.ref r0, .int x1] h (some (.int o.1)) o.2) {o : Int32 × mH} (hE : xEnd G C (some (.int o.1)) o.2) {k65 : Nat → Int32 → Int32 → mH → Option (Int32 × mH)} (hk65 : ∀ (r0 : Nat) (x1 : Int32) (x2 : Int32) (h : mH), k65 r0 x1 x2 h = some o → X G C (mi_X1_comes (d + 1)) 65 [(0, .ref r0), (1, .int x1), (2, .int x2)] [] h) {k132 : Nat → Int32 → Int32 → Int32 → mH → Option (Int32 × mH)} (hk132 : ∀ (r0 : Nat) (x1 : Int32) (x2 : Int32) (x3 : Int32) (h : mH), k132 r0 x1 x2 x3 h = some o → X G C (mi_X1_comes (d + 1)) 132 [(0, .ref r0), (1, .int x1), (2, .int x2), (3, .int x3)] [] h) : ∀ (n : Nat) (r0 : Nat) (x1 : Int32) (x2 : Int32) (h : mH), f_X1_comes_L2 rc_X1_comes k65 k132 n r0 x1 x2 h = some o → X G C (mi_X1_comes (d + 1)) 2 [(0, .ref r0), (1, .int x1), (2, .int x2)] [] h := by
  intro n
  induction n with
  | zero => intro r0 x1 x2 h H; exact nomatch (show (none : Option (Int32 × mH)) = some o from H)
  | succ n ih =>
    intro r0 x1 x2 h H
    rw [f_X1_comes_L2] at H
    refine x_iload_n 2 rfl dX1_comes_2 ?_
    refine x_aload_n 0 rfl dX1_comes_3 ?_
    obtain ⟨c13, H⟩ := oit H
    obtain ⟨a13, g13, e13, H⟩ := obR H
    refine x_callV (M' := mi_X1_persons) (n := 0) (As := []) (t_X1_persons C _ e13) c13 rfl rfl md_X1_persons ⟨by show 2 + 1 ≤ 9 + (d + 1); omega, Nat.le_of_ble_eq_true rfl⟩ q1140 q1142 qs22 q120 q1143 rfl (Nat.le_of_ble_eq_true rfl) dX1_comes_4 ?_
    refine x_icmp_ge 176 dX1_comes_7 (by first | decide | (dsimp only [mi_X1_comes]; decide)) (fun c14 => ?_) (fun c14 => ?_)
    · rw [if_pos c14] at H
      refine x_iconst (0 : Int32) dX1_comes_176 ic_0 ?_
      obtain rfl := Option.some.inj H
      exact x_iret hE rfl rfl dX1_comes_177
    · rw [if_neg c14] at H
      refine x_aload_n 0 rfl dX1_comes_10 ?_
      obtain ⟨v15, e15, H⟩ := ob H
      refine x_getf fg_X1_268 (gFi_spec e15) dX1_comes_11 ?_
      refine x_iload_n 2 rfl dX1_comes_14 ?_
      obtain ⟨a16, g16, e16, H⟩ := obR H
      refine x_callS (M' := mi_X1_isOf) (n := 2) (As := [.int v15, .int x2]) (t_X1_isOf C _ e16) md_X1_isOf ⟨by show 1 + 1 ≤ 9 + (d + 1); omega, Nat.le_of_ble_eq_true rfl⟩ q1378 q1080 q120 q1081 rfl (Nat.le_of_ble_eq_true rfl) dX1_comes_15 ?_
      refine x_if_ne 170 dX1_comes_18 (by first | decide | (dsimp only [mi_X1_comes]; decide)) (fun c17 => ?_) (fun c17 => ?_)
      · rw [if_neg c17] at H
        exact t_X1_comes_b170 hrc_X1_comes hE ih hk65 hk132 _ _ _ _ H
      · rw [if_pos c17] at H
        refine x_aload_n 0 rfl dX1_comes_21 ?_
        obtain ⟨v18, e18, H⟩ := ob H
        refine x_getf fg_X1_47 (gFr_spec e18) dX1_comes_22 ?_
        refine x_bipush (7 : Int32) dX1_comes_25 bi_7 ?_
        refine x_iload_n 1 rfl dX1_comes_27 ?_
        refine x_imul dX1_comes_28 ?_
        refine x_iload_n 2 rfl dX1_comes_29 ?_
        refine x_iadd dX1_comes_30 ?_
        obtain ⟨v19, e19, H⟩ := ob H
        refine x_iald e19 dX1_comes_31 ?_
        refine x_aload_n 0 rfl dX1_comes_32 ?_
        refine x_iload_n 1 rfl dX1_comes_33 ?_
        refine x_iload_n 2 rfl dX1_comes_34 ?_
        obtain ⟨c20, H⟩ := oit H
        obtain ⟨a20, g20, e20, H⟩ := obR H
        refine x_callV (M' := mi_X1_room) (n := 2) (As := [.int x1, .int x2]) (t_X1_room C _ e20) c20 rfl rfl md_X1_room ⟨by show 8 + 1 ≤ 9 + (d + 1); omega, Nat.le_of_ble_eq_true rfl⟩ q1379 q1381 qs27 q120 q1382 rfl (Nat.le_of_ble_eq_true rfl) dX1_comes_35 ?_
        refine x_icmp_lt 44 dX1_comes_38 (by first | decide | (dsimp only [mi_X1_comes]; decide)) (fun c21 => ?_) (fun c21 => ?_)
        · rw [if_pos c21] at H
          refine x_aload_n 0 rfl dX1_comes_44 ?_
          refine x_dup dX1_comes_45 rfl ?_
          obtain ⟨v22, e22, H⟩ := ob H
          refine x_getf fg_X1_268 (gFi_spec e22) dX1_comes_46 ?_
          refine x_iconst (1 : Int32) dX1_comes_49 ic_1 ?_
          refine x_iload_n 2 rfl dX1_comes_50 ?_
          refine x_ishl dX1_comes_51 ?_
          refine x_ior dX1_comes_52 ?_
          obtain ⟨h23, e23, H⟩ := ob H
          refine x_putf (fp_X1_268 _) rfl rfl e23 dX1_comes_53 ?_
          refine x_aload_n 0 rfl dX1_comes_56 ?_
          obtain ⟨v24, e24, H⟩ := ob H
          refine x_getf fg_X1_51 (gFr_spec e24) dX1_comes_57 ?_
          refine x_iload_n 2 rfl dX1_comes_60 ?_
          obtain ⟨v25, e25, H⟩ := ob H
          refine x_iald e25 dX1_comes_61 ?_
          refine x_if_le 92 dX1_comes_62 (by first | decide | (dsimp only [mi_X1_comes]; decide)) (fun c26 => ?_) (fun c26 => ?_)
          · rw [if_pos c26] at H
            refine x_iconst (0 : Int32) dX1_comes_92 ic_0 ?_
            refine x_istore_n [1, 2, 3, 0] dX1_comes_93 (by first | decide | (dsimp only [mi_X1_comes]; decide)) rfl ?_
            exact t_X1_comes_L94 hrc_X1_comes hE hk132 (t_X1_comes_b170 hrc_X1_comes hE ih hk65 hk132) xFu _ _ _ _ _ H
          · rw [if_neg c26] at H
            exact hk65 _ _ _ _ H
        · rw [if_neg c21] at H
          refine x_goto (tgt := 170) dX1_comes_41 (by first | decide | (dsimp only [mi_X1_comes]; decide)) ?_
          exact t_X1_comes_b170 hrc_X1_comes hE ih hk65 hk132 _ _ _ _ H
def fb_X1_comes (rc_X1_comes : Nat → Int32 → mH → Option (Int32 × mH)) (r0 : Nat) (x1 : Int32) (h : mH) : Option (Int32 × mH) := f_X1_comes_L2 rc_X1_comes (f_X1_comes_b65 rc_X1_comes) (f_X1_comes_b132 rc_X1_comes) xFu r0 x1 (0 : Int32) h
theorem tb_X1_comes {G : xG} (C0 : xC) {d : Nat} {rc_X1_comes : Nat → Int32 → mH → Option (Int32 × mH)} (hrc_X1_comes : ∀ {l : Launch} {r0 : Nat} {x1 : Int32} (h : mH) {o : Int32 × mH}, rc_X1_comes r0 x1 h = some o → XR G l (mi_X1_comes d) [.ref r0, .int x1] h (some (.int o.1)) o.2) {l : Launch} {r0 : Nat} {x1 : Int32} (h : mH) {o : Int32 × mH} (H : fb_X1_comes rc_X1_comes r0 x1 h = some o) : XR G l (mi_X1_comes (d + 1)) [.ref r0, .int x1] h (some (.int o.1)) o.2 := by
  refine XR.of C0 (by first | decide | (dsimp only [mi_X1_comes]; decide)) (Nat.le_of_ble_eq_true rfl) (fun C _ _ _ hE => ?_)
  show X G C (mi_X1_comes (d + 1)) 0 [(0, .ref r0), (1, .int x1)] [] h
  unfold fb_X1_comes at H
  refine x_iconst (0 : Int32) dX1_comes_0 ic_0 ?_
  refine x_istore_n [1, 2, 0] dX1_comes_1 (by first | decide | (dsimp only [mi_X1_comes]; decide)) rfl ?_
  exact t_X1_comes_L2 hrc_X1_comes hE (t_X1_comes_b65 hrc_X1_comes hE) (t_X1_comes_b132 hrc_X1_comes hE) xFu _ _ _ _ H
def f_X1_comes : Nat → Nat → Int32 → mH → Option (Int32 × mH)
  | 0, _, _, _ => none
  | d + 1, r0, x1, h => fb_X1_comes (f_X1_comes d) r0 x1 h
theorem t_X1_comes {G : xG} (C0 : xC) : ∀ (d : Nat), ∀ {l : Launch} {r0 : Nat} {x1 : Int32} (h : mH) {o : Int32 × mH}, f_X1_comes d r0 x1 h = some o → XR G l (mi_X1_comes d) [.ref r0, .int x1] h (some (.int o.1)) o.2 := by
  intro d
  induction d with
  | zero => intro l r0 x1 h o H; exact nomatch (show (none : Option (Int32 × mH)) = some o from H)
  | succ d ih => intro l r0 x1 h o H; exact tb_X1_comes C0 ih h H
abbrev mi_X1_count : xM := (cX1_count, yX1_count, 2, some .int, 3)
theorem md_X1_count : xMD mi_X1_count 1 := ⟨by decide, by decide, by decide +kernel⟩
def f_X1_count (r0 : Nat) (x1 : Int32) (h : mH) : Option (Int32 × mH) := if x1 = (0 : Int32) then if gC h r0 = 0 then bR (f_X1_persons r0  h) fun a2 g2 => some (a2, g2) else none else if x1 = (1 : Int32) then (gFr [0] 3 h r0).bind fun v4 => (gFr [1] 5 h v4).bind fun v5 => if gC h v5 = 21 then bR (f_J2_size v5  h) fun a6 g6 => some (a6, g6) else none else if x1 = (2 : Int32) then (gFr [0] 3 h r0).bind fun v8 => (gFi [1] 1 h v8).bind fun v9 => some (v9, h) else if x1 = (3 : Int32) then (gFr [0] 3 h r0).bind fun v11 => (gFi [1] 2 h v11).bind fun v12 => some (v12, h) else if x1 = (4 : Int32) then (gFr [0] 3 h r0).bind fun v14 => (gFi [1] 3 h v14).bind fun v15 => some (v15, h) else if x1 = (5 : Int32) then (gFi [0] 1 h r0).bind fun v17 => some (v17, h) else some ((-1 : Int32), h)
theorem t_X1_count {G : xG} (C0 : xC) {l : Launch} {r0 : Nat} {x1 : Int32} (h : mH) {o : Int32 × mH} (H : f_X1_count r0 x1 h = some o) : XR G l mi_X1_count [.ref r0, .int x1] h (some (.int o.1)) o.2 := by
  refine XR.of C0 (by decide) (Nat.le_of_ble_eq_true rfl) (fun C _ _ _ hE => ?_)
  show X G C mi_X1_count 0 [(0, .ref r0), (1, .int x1)] [] h
  unfold f_X1_count at H
  refine x_iload_n 1 rfl dX1_count_0 ?_
  by_cases c1 : x1 = (0 : Int32)
  · rw [if_pos c1] at H
    refine x_tsw (off := 39) 40 dX1_count_1 c1 (by decide) (by decide) (by decide) (by decide) ?_
    refine x_aload_n 0 rfl dX1_count_40 ?_
    obtain ⟨c2, H⟩ := oit H
    obtain ⟨a2, g2, e2, H⟩ := obR H
    refine x_callV (M' := mi_X1_persons) (n := 0) (As := []) (t_X1_persons C _ e2) c2 rfl rfl md_X1_persons ⟨Nat.le_of_ble_eq_true rfl, Nat.le_of_ble_eq_true rfl⟩ q1140 q1142 qs22 q120 q1143 rfl (Nat.le_of_ble_eq_true rfl) dX1_count_41 ?_
    obtain rfl := Option.some.inj H
    exact x_iret hE rfl rfl dX1_count_44
  rw [if_neg c1] at H
  by_cases c3 : x1 = (1 : Int32)
  · rw [if_pos c3] at H
    refine x_tsw (off := 44) 45 dX1_count_1 c3 (by decide) (by decide) (by decide) (by decide) ?_
    refine x_aload_n 0 rfl dX1_count_45 ?_
    obtain ⟨v4, e4, H⟩ := ob H
    refine x_getf fg_X1_25 (gFr_spec e4) dX1_count_46 ?_
    obtain ⟨v5, e5, H⟩ := ob H
    refine x_getf fg_X1_414 (gFr_spec e5) dX1_count_49 ?_
    obtain ⟨c6, H⟩ := oit H
    obtain ⟨a6, g6, e6, H⟩ := obR H
    refine x_callV (M' := mi_J2_size) (n := 0) (As := []) (t_J2_size C _ e6) c6 rfl rfl md_J2_size ⟨Nat.le_of_ble_eq_true rfl, Nat.le_of_ble_eq_true rfl⟩ q1144 q317 q318 q124 q319 rfl (Nat.le_of_ble_eq_true rfl) dX1_count_52 ?_
    obtain rfl := Option.some.inj H
    exact x_iret hE rfl rfl dX1_count_55
  rw [if_neg c3] at H
  by_cases c7 : x1 = (2 : Int32)
  · rw [if_pos c7] at H
    refine x_tsw (off := 55) 56 dX1_count_1 c7 (by decide) (by decide) (by decide) (by decide) ?_
    refine x_aload_n 0 rfl dX1_count_56 ?_
    obtain ⟨v8, e8, H⟩ := ob H
    refine x_getf fg_X1_25 (gFr_spec e8) dX1_count_57 ?_
    obtain ⟨v9, e9, H⟩ := ob H
    refine x_getf fg_X1_266 (gFi_spec e9) dX1_count_60 ?_
    obtain rfl := Option.some.inj H
    exact x_iret hE rfl rfl dX1_count_63
  rw [if_neg c7] at H
  by_cases c10 : x1 = (3 : Int32)
  · rw [if_pos c10] at H
    refine x_tsw (off := 63) 64 dX1_count_1 c10 (by decide) (by decide) (by decide) (by decide) ?_
    refine x_aload_n 0 rfl dX1_count_64 ?_
    obtain ⟨v11, e11, H⟩ := ob H
    refine x_getf fg_X1_25 (gFr_spec e11) dX1_count_65 ?_
    obtain ⟨v12, e12, H⟩ := ob H
    refine x_getf fg_X1_417 (gFi_spec e12) dX1_count_68 ?_
    obtain rfl := Option.some.inj H
    exact x_iret hE rfl rfl dX1_count_71
  rw [if_neg c10] at H
  by_cases c13 : x1 = (4 : Int32)
  · rw [if_pos c13] at H
    refine x_tsw (off := 71) 72 dX1_count_1 c13 (by decide) (by decide) (by decide) (by decide) ?_
    refine x_aload_n 0 rfl dX1_count_72 ?_
    obtain ⟨v14, e14, H⟩ := ob H
    refine x_getf fg_X1_25 (gFr_spec e14) dX1_count_73 ?_
    obtain ⟨v15, e15, H⟩ := ob H
    refine x_getf fg_X1_418 (gFi_spec e15) dX1_count_76 ?_
    obtain rfl := Option.some.inj H
    exact x_iret hE rfl rfl dX1_count_79
  rw [if_neg c13] at H
  by_cases c16 : x1 = (5 : Int32)
  · rw [if_pos c16] at H
    refine x_tsw (off := 79) 80 dX1_count_1 c16 (by decide) (by decide) (by decide) (by decide) ?_
    refine x_aload_n 0 rfl dX1_count_80 ?_
    obtain ⟨v17, e17, H⟩ := ob H
    refine x_getf fg_X1_86 (gFi_spec e17) dX1_count_81 ?_
    obtain rfl := Option.some.inj H
    exact x_iret hE rfl rfl dX1_count_84
  rw [if_neg c16] at H
  refine x_tswd 85 dX1_count_1 (xts0_6 c1 c3 c7 c10 c13 c16) (by decide) ?_
  refine x_iconst (-1 : Int32) dX1_count_85 ic_m1 ?_
  obtain rfl := Option.some.inj H
  exact x_iret hE rfl rfl dX1_count_86
abbrev mi_X3_begin : xM := (cX3_begin, yX3_begin, 3, some (.object "StrangerMarket$Market"), 6)
theorem md_X3_begin : xMD mi_X3_begin 1 := ⟨by decide, by decide, by decide +kernel⟩
def f_X3_begin_b77 (r0 : Nat) (h : mH) : Option (Nat × mH) := if gC h r0 = 2 then bR (f_X3_forget r0  h) fun a12 g12 => if gC g12 r0 = 2 then bR (f_X3_open r0  g12) fun a13 g13 => some (r0, g13) else none else none
theorem t_X3_begin_b77 {G : xG} {C : xC} {o : Nat × mH} (hE : xEnd G C (some (.ref o.1)) o.2) (r0 : Nat) (h : mH) (H : f_X3_begin_b77 r0 h = some o) : X G C mi_X3_begin 77 [(0, .ref r0)] [] h := by
  unfold f_X3_begin_b77 at H
  refine x_aload_n 0 rfl dX3_begin_77 ?_
  obtain ⟨c12, H⟩ := oit H
  obtain ⟨a12, g12, e12, H⟩ := obR H
  refine x_callV (M' := mi_X3_forget) (n := 0) (As := []) (t_X3_forget C _ e12) c12 rfl rfl md_X3_forget ⟨Nat.le_of_ble_eq_true rfl, Nat.le_of_ble_eq_true rfl⟩ q339 q341 qs0 q125 q342 rfl (Nat.le_of_ble_eq_true rfl) dX3_begin_78 ?_
  refine x_aload_n 0 rfl dX3_begin_81 ?_
  obtain ⟨c13, H⟩ := oit H
  obtain ⟨a13, g13, e13, H⟩ := obR H
  refine x_callV (M' := mi_X3_open) (n := 0) (As := []) (t_X3_open C _ e13) c13 rfl rfl md_X3_open ⟨Nat.le_of_ble_eq_true rfl, Nat.le_of_ble_eq_true rfl⟩ q343 q345 qs1 q125 q346 rfl (Nat.le_of_ble_eq_true rfl) dX3_begin_82 ?_
  refine x_aload_n 0 rfl dX3_begin_85 ?_
  obtain rfl := Option.some.inj H
  exact x_aret hE rfl (by first | exact Or.inl ⟨_, rfl⟩ | exact Or.inr ⟨_, rfl⟩) dX3_begin_86
def f_X3_begin_L49 (k77 : Nat → mH → Option (Nat × mH)) : Nat → Nat → Int32 → mH → Option (Nat × mH)
  | 0, _, _, _ => none
  | n + 1, r0, x2, h => if gC h r0 = 2 then bR (f_X3_persons r0  h) fun a14 g14 => if a14 ≤ x2 then k77 r0 g14 else (gFr [2] 6 g14 r0).bind fun v16 => if gC g14 r0 = 2 then bR (f_X3_person r0 x2 g14) fun a17 g17 => (gFi [10] 1 g17 a17).bind fun v18 => (sI .int g17 v16 x2 v18).bind fun h19 => (f_X3_begin_L49 k77 n) r0 (x2 + (1 : Int32)) h19 else none else none
theorem t_X3_begin_L49 {G : xG} {C : xC} {o : Nat × mH} (hE : xEnd G C (some (.ref o.1)) o.2) {k77 : Nat → mH → Option (Nat × mH)} (hk77 : ∀ (r0 : Nat) (h : mH), k77 r0 h = some o → X G C mi_X3_begin 77 [(0, .ref r0)] [] h) : ∀ (n : Nat) (r0 : Nat) (x2 : Int32) (h : mH), f_X3_begin_L49 k77 n r0 x2 h = some o → X G C mi_X3_begin 49 [(0, .ref r0), (2, .int x2)] [] h := by
  intro n
  induction n with
  | zero => intro r0 x2 h H; exact nomatch (show (none : Option (Nat × mH)) = some o from H)
  | succ n ih =>
    intro r0 x2 h H
    rw [f_X3_begin_L49] at H
    refine x_iload_n 1 rfl dX3_begin_49 ?_
    refine x_aload_n 0 rfl dX3_begin_50 ?_
    obtain ⟨c14, H⟩ := oit H
    obtain ⟨a14, g14, e14, H⟩ := obR H
    refine x_callV (M' := mi_X3_persons) (n := 0) (As := []) (t_X3_persons C _ e14) c14 rfl rfl md_X3_persons ⟨Nat.le_of_ble_eq_true rfl, Nat.le_of_ble_eq_true rfl⟩ q312 q313 q314 q125 q315 rfl (Nat.le_of_ble_eq_true rfl) dX3_begin_51 ?_
    refine x_icmp_ge 77 dX3_begin_54 (by decide) (fun c15 => ?_) (fun c15 => ?_)
    · rw [if_pos c15] at H
      refine X.sub [0] rfl ?_
      exact hk77 _ _ H
    · rw [if_neg c15] at H
      refine x_aload_n 0 rfl dX3_begin_57 ?_
      obtain ⟨v16, e16, H⟩ := ob H
      refine x_getf fg_X3_9 (gFr_spec e16) dX3_begin_58 ?_
      refine x_iload_n 1 rfl dX3_begin_61 ?_
      refine x_aload_n 0 rfl dX3_begin_62 ?_
      refine x_iload_n 1 rfl dX3_begin_63 ?_
      obtain ⟨c17, H⟩ := oit H
      obtain ⟨a17, g17, e17, H⟩ := obR H
      refine x_callV (M' := mi_X3_person) (n := 1) (As := [.int x2]) (t_X3_person C _ e17) c17 rfl rfl md_X3_person ⟨Nat.le_of_ble_eq_true rfl, Nat.le_of_ble_eq_true rfl⟩ q320 q321 q322 q125 q323 rfl (Nat.le_of_ble_eq_true rfl) dX3_begin_64 ?_
      obtain ⟨v18, e18, H⟩ := ob H
      refine x_getf fg_X3_55 (gFi_spec e18) dX3_begin_67 ?_
      obtain ⟨h19, e19, H⟩ := ob H
      refine x_iast e19 dX3_begin_70 ?_
      refine x_iinc 1 (x2 + (1 : Int32)) [1, 0] dX3_begin_71 rfl (ii_1 _) (by decide) rfl ?_
      refine x_goto (tgt := 49) dX3_begin_74 (by decide) ?_
      exact ih _ _ _ H
def f_X3_begin (r0 : Nat) (r1 : Nat) (h : mH) : Option (Nat × mH) := (pF [2] 0 (.ref r1) h r0).bind fun h1 => (pF [2] 1 (.int (0 : Int32)) h1 r0).bind fun h2 => (pF [2] 2 (.int (0 : Int32)) h2 r0).bind fun h3 => (gFr [2] 6 h3 r0).bind fun v4 => bR (f_J3_fill v4 (0 : Int32) h3) fun a5 g5 => (gFr [2] 7 g5 r0).bind fun v6 => bR (f_J3_fill v6 (0 : Int32) g5) fun a7 g7 => (gFr [2] 10 g7 r0).bind fun v8 => bR (f_J3_fill v8 (0 : Int32) g7) fun a9 g9 => (gFr [2] 11 g9 r0).bind fun v10 => bR (f_J3_fill v10 (0 : Int32) g9) fun a11 g11 => f_X3_begin_L49 (f_X3_begin_b77) xFu r0 (0 : Int32) g11
theorem t_X3_begin {G : xG} (C0 : xC) {l : Launch} {r0 : Nat} {r1 : Nat} (h : mH) {o : Nat × mH} (H : f_X3_begin r0 r1 h = some o) : XR G l mi_X3_begin [.ref r0, .ref r1] h (some (.ref o.1)) o.2 := by
  refine XR.of C0 (by decide) (Nat.le_of_ble_eq_true rfl) (fun C _ _ _ hE => ?_)
  show X G C mi_X3_begin 0 [(0, .ref r0), (1, .ref r1)] [] h
  unfold f_X3_begin at H
  refine x_aload_n 0 rfl dX3_begin_0 ?_
  refine x_aload_n 1 rfl dX3_begin_1 ?_
  obtain ⟨h1, e1, H⟩ := ob H
  refine x_putf (fp_X3_30 _) rfl rfl e1 dX3_begin_2 ?_
  refine x_aload_n 0 rfl dX3_begin_5 ?_
  refine x_iconst (0 : Int32) dX3_begin_6 ic_0 ?_
  obtain ⟨h2, e2, H⟩ := ob H
  refine x_putf (fp_X3_34 _) rfl rfl e2 dX3_begin_7 ?_
  refine x_aload_n 0 rfl dX3_begin_10 ?_
  refine x_iconst (0 : Int32) dX3_begin_11 ic_0 ?_
  obtain ⟨h3, e3, H⟩ := ob H
  refine x_putf (fp_X3_38 _) rfl rfl e3 dX3_begin_12 ?_
  refine x_aload_n 0 rfl dX3_begin_15 ?_
  obtain ⟨v4, e4, H⟩ := ob H
  refine x_getf fg_X3_9 (gFr_spec e4) dX3_begin_16 ?_
  refine x_iconst (0 : Int32) dX3_begin_19 ic_0 ?_
  obtain ⟨a5, g5, e5, H⟩ := obR H
  refine x_callS (M' := mi_J3_fill) (n := 2) (As := [.ref v4, .int (0 : Int32)]) (t_J3_fill C _ e5) md_J3_fill ⟨Nat.le_of_ble_eq_true rfl, Nat.le_of_ble_eq_true rfl⟩ q309 q310 q126 q311 rfl (Nat.le_of_ble_eq_true rfl) dX3_begin_20 ?_
  refine x_aload_n 0 rfl dX3_begin_23 ?_
  obtain ⟨v6, e6, H⟩ := ob H
  refine x_getf fg_X3_15 (gFr_spec e6) dX3_begin_24 ?_
  refine x_iconst (0 : Int32) dX3_begin_27 ic_0 ?_
  obtain ⟨a7, g7, e7, H⟩ := obR H
  refine x_callS (M' := mi_J3_fill) (n := 2) (As := [.ref v6, .int (0 : Int32)]) (t_J3_fill C _ e7) md_J3_fill ⟨Nat.le_of_ble_eq_true rfl, Nat.le_of_ble_eq_true rfl⟩ q309 q310 q126 q311 rfl (Nat.le_of_ble_eq_true rfl) dX3_begin_28 ?_
  refine x_aload_n 0 rfl dX3_begin_31 ?_
  obtain ⟨v8, e8, H⟩ := ob H
  refine x_getf fg_X3_24 (gFr_spec e8) dX3_begin_32 ?_
  refine x_iconst (0 : Int32) dX3_begin_35 ic_0 ?_
  obtain ⟨a9, g9, e9, H⟩ := obR H
  refine x_callS (M' := mi_J3_fill) (n := 2) (As := [.ref v8, .int (0 : Int32)]) (t_J3_fill C _ e9) md_J3_fill ⟨Nat.le_of_ble_eq_true rfl, Nat.le_of_ble_eq_true rfl⟩ q309 q310 q126 q311 rfl (Nat.le_of_ble_eq_true rfl) dX3_begin_36 ?_
  refine x_aload_n 0 rfl dX3_begin_39 ?_
  obtain ⟨v10, e10, H⟩ := ob H
  refine x_getf fg_X3_27 (gFr_spec e10) dX3_begin_40 ?_
  refine x_iconst (0 : Int32) dX3_begin_43 ic_0 ?_
  obtain ⟨a11, g11, e11, H⟩ := obR H
  refine x_callS (M' := mi_J3_fill) (n := 2) (As := [.ref v10, .int (0 : Int32)]) (t_J3_fill C _ e11) md_J3_fill ⟨Nat.le_of_ble_eq_true rfl, Nat.le_of_ble_eq_true rfl⟩ q309 q310 q126 q311 rfl (Nat.le_of_ble_eq_true rfl) dX3_begin_44 ?_
  refine x_iconst (0 : Int32) dX3_begin_47 ic_0 ?_
  refine x_istore_n [1, 2, 0] dX3_begin_48 (by decide) rfl ?_
  refine X.sub [0, 2] rfl ?_
  exact t_X3_begin_L49 hE (t_X3_begin_b77 hE) xFu _ _ _ H
abbrev mi_X2_init : xM := (cX2_init, yX2_init, 1, none, 4)
theorem md_X2_init : xMD mi_X2_init 0 := ⟨by decide, by decide, by decide +kernel⟩
def f_X2_init (r0 : Nat) (h : mH) : Option (Unit × mH) := if 6 ≤ r0 then (pF [1] 1 (.int (2 : Int32)) h r0).bind fun h2 => (pF [1] 2 (.int (1 : Int32)) h2 r0).bind fun h3 => if 6 ≤ h3.2.1 then bR (f_J2_init h3.2.1  (xnw h3 (.inr (21, [.int 0, .ref 0, .int 0])) 3)) fun a4 g4 => (pF [1] 4 (.ref h3.2.1) g4 r0).bind fun h5 => if 6 ≤ h5.2.1 then bR (f_J2_init h5.2.1  (xnw h5 (.inr (21, [.int 0, .ref 0, .int 0])) 3)) fun a6 g6 => (pF [1] 5 (.ref h5.2.1) g6 r0).bind fun h7 => some ((), h7) else none else none else none
theorem t_X2_init {G : xG} (C0 : xC) {l : Launch} {r0 : Nat} (h : mH) {o : Unit × mH} (H : f_X2_init r0 h = some o) : XR G l mi_X2_init [.ref r0] h none o.2 := by
  refine XR.of C0 (by decide) (Nat.le_of_ble_eq_true rfl) (fun C _ _ _ hE => ?_)
  show X G C mi_X2_init 0 [(0, .ref r0)] [] h
  unfold f_X2_init at H
  refine x_aload_n 0 rfl dX2_init_0 ?_
  obtain ⟨c1, H⟩ := oit H
  refine x_oinit c1 (by decide) q177 q170 q171 (Nat.le_of_ble_eq_true rfl) dX2_init_1 ?_
  refine x_aload_n 0 rfl dX2_init_4 ?_
  refine x_iconst (2 : Int32) dX2_init_5 ic_2 ?_
  obtain ⟨h2, e2, H⟩ := ob H
  refine x_putf (fp_X2_7 _) rfl rfl e2 dX2_init_6 ?_
  refine x_aload_n 0 rfl dX2_init_9 ?_
  refine x_iconst (1 : Int32) dX2_init_10 ic_1 ?_
  obtain ⟨h3, e3, H⟩ := ob H
  refine x_putf (fp_X2_13 _) rfl rfl e3 dX2_init_11 ?_
  refine x_aload_n 0 rfl dX2_init_14 ?_
  refine x_new (fs := [.int 0, .ref 0, .int 0]) ci_21 q178 q179 q124 (nf_J2 G) rfl dX2_init_15 ?_
  refine x_dup dX2_init_18 rfl ?_
  obtain ⟨c4, H⟩ := oit H
  obtain ⟨a4, g4, e4, H⟩ := obR H
  refine x_callI (M' := mi_J2_init) (n := 0) (As := []) (t_J2_init C _ e4) c4 md_J2_init ⟨Nat.le_of_ble_eq_true rfl, Nat.le_of_ble_eq_true rfl⟩ rfl rfl q180 q181 q124 q182 rfl (Nat.le_of_ble_eq_true rfl) dX2_init_19 ?_
  obtain ⟨h5, e5, H⟩ := ob H
  refine x_putf fp_X2_19 rfl rfl e5 dX2_init_22 ?_
  refine x_aload_n 0 rfl dX2_init_25 ?_
  refine x_new (fs := [.int 0, .ref 0, .int 0]) ci_21 q178 q179 q124 (nf_J2 G) rfl dX2_init_26 ?_
  refine x_dup dX2_init_29 rfl ?_
  obtain ⟨c6, H⟩ := oit H
  obtain ⟨a6, g6, e6, H⟩ := obR H
  refine x_callI (M' := mi_J2_init) (n := 0) (As := []) (t_J2_init C _ e6) c6 md_J2_init ⟨Nat.le_of_ble_eq_true rfl, Nat.le_of_ble_eq_true rfl⟩ rfl rfl q180 q181 q124 q182 rfl (Nat.le_of_ble_eq_true rfl) dX2_init_30 ?_
  obtain ⟨h7, e7, H⟩ := ob H
  refine x_putf fp_X2_23 rfl rfl e7 dX2_init_33 ?_
  obtain rfl := Option.some.inj H
  exact x_vret hE rfl dX2_init_36
abbrev mi_X7_init : xM := (cX7_init, yX7_init, 3, none, 5)
theorem md_X7_init : xMD mi_X7_init 2 := ⟨by decide, by decide, by decide +kernel⟩
def f_X7_init (r0 : Nat) (r1 : Nat) (x2 : Int32) (h : mH) : Option (Unit × mH) := if 6 ≤ r0 then bR (f_X6_init r0 r1 x2 (900 : Int32) h) fun a1 g1 => if 6 ≤ g1.2.1 then bR (f_X2_init g1.2.1  (xnw g1 (.inr (1, [.int 0, .int 0, .int 0, .int 0, .ref 0, .ref 0])) 6)) fun a2 g2 => (pF [5] 9 (.ref g1.2.1) g2 r0).bind fun h3 => some ((), h3) else none else none
theorem t_X7_init {G : xG} (C0 : xC) {l : Launch} {r0 : Nat} {r1 : Nat} {x2 : Int32} (h : mH) {o : Unit × mH} (H : f_X7_init r0 r1 x2 h = some o) : XR G l mi_X7_init [.ref r0, .ref r1, .int x2] h none o.2 := by
  refine XR.of C0 (by decide) (Nat.le_of_ble_eq_true rfl) (fun C _ _ _ hE => ?_)
  show X G C mi_X7_init 0 [(0, .ref r0), (1, .ref r1), (2, .int x2)] [] h
  unfold f_X7_init at H
  refine x_aload_n 0 rfl dX7_init_0 ?_
  refine x_aload_n 1 rfl dX7_init_1 ?_
  refine x_iload_n 2 rfl dX7_init_2 ?_
  refine x_sipush (900 : Int32) dX7_init_3 si_900 ?_
  obtain ⟨c1, H⟩ := oit H
  obtain ⟨a1, g1, e1, H⟩ := obR H
  refine x_callI (M' := mi_X6_init) (n := 3) (As := [.ref r1, .int x2, .int (900 : Int32)]) (t_X6_init C _ e1) c1 md_X6_init ⟨Nat.le_of_ble_eq_true rfl, Nat.le_of_ble_eq_true rfl⟩ rfl rfl q462 q463 q132 q464 rfl (Nat.le_of_ble_eq_true rfl) dX7_init_6 ?_
  refine x_aload_n 0 rfl dX7_init_9 ?_
  refine x_new (fs := [.int 0, .int 0, .int 0, .int 0, .ref 0, .ref 0]) ci_1 q467 q173 q121 (nf_X2 G) rfl dX7_init_10 ?_
  refine x_dup dX7_init_13 rfl ?_
  obtain ⟨c2, H⟩ := oit H
  obtain ⟨a2, g2, e2, H⟩ := obR H
  refine x_callIN (M' := mi_X2_init) (n := 0) (As := []) (t_X2_init C _ e2) c2 md_X2_init ⟨Nat.le_of_ble_eq_true rfl, Nat.le_of_ble_eq_true rfl⟩ rfl rfl q468 q175 q121 q176 rfl (Nat.le_of_ble_eq_true rfl) dX7_init_14 ?_
  obtain ⟨h3, e3, H⟩ := ob H
  refine x_putf fp_X7_14 rfl rfl e3 dX7_init_17 ?_
  obtain rfl := Option.some.inj H
  exact x_vret hE rfl dX7_init_20
abbrev mi_X7_once : xM := (cX7_once, yX7_once, 4, some .int, 11)
theorem md_X7_once : xMD mi_X7_once 3 := ⟨by decide, by decide, by decide +kernel⟩
def f_X7_once_b17 (r0 : Nat) (x1 : Int32) (x2 : Int32) (x3 : Int32) (s0 : Nat) (s1 : Int32) (h : mH) : Option ((Int32 ⊕ Nat) × mH) := if gC h s0 ∈ [5] then bT (f_X6_need s0 s1 (3 : Int32) h) fun v4 h4 => (gFi [5] 10 h4 r0).bind fun v5 => (pF [5] 10 (.int (v5 ||| ((1 : Int32) <<< (x1 &&& 31)))) h4 r0).bind fun h6 => if gC h6 r0 ∈ [5] then bR (f_X6_go r0  h6) fun a7 g7 => if gC g7 r0 ∈ [5] then bT (f_X6_number r0 x2 x3 g7) fun v8 h8 => some (.inl v8, h8) else none else none else none
theorem t_X7_once_b17 {G : xG} {C : xC} {o : (Int32 ⊕ Nat) × mH} (hE : xEndT G C [] (xoI "StrangerMarket$Fault" o.1) o.2) (r0 : Nat) (x1 : Int32) (x2 : Int32) (x3 : Int32) (s0 : Nat) (s1 : Int32) (h : mH) (H : f_X7_once_b17 r0 x1 x2 x3 s0 s1 h = some o) : X G C mi_X7_once 17 [(0, .ref r0), (1, .int x1), (2, .int x2), (3, .int x3)] [.int s1, .ref s0] h := by
  unfold f_X7_once_b17 at H
  refine x_iconst (3 : Int32) dX7_once_17 ic_3 ?_
  obtain ⟨c4, H⟩ := oit H
  rcases obT H with ⟨a4, h4, e4, rfl⟩ | ⟨v4, h4, e4, H⟩
  · exact x_goX (t_X6_need C _ e4) (x_rU (M' := mi_X6_need) (n := 2) (As := [.int s1, .int (3 : Int32)]) (t_X6_need C _ e4) c4 up_X7_86_5 (by decide +kernel) ⟨Nat.le_of_ble_eq_true rfl, Nat.le_of_ble_eq_true rfl⟩ q749 rfl (Nat.le_of_ble_eq_true rfl) dX7_once_18) hE
  refine x_goR (r := none) (t_X6_need C _ e4) (x_rU (M' := mi_X6_need) (n := 2) (As := [.int s1, .int (3 : Int32)]) (t_X6_need C _ e4) c4 up_X7_86_5 (by decide +kernel) ⟨Nat.le_of_ble_eq_true rfl, Nat.le_of_ble_eq_true rfl⟩ q749 rfl (Nat.le_of_ble_eq_true rfl) dX7_once_18) ?_
  refine x_aload_n 0 rfl dX7_once_21 ?_
  refine x_dup dX7_once_22 rfl ?_
  obtain ⟨v5, e5, H⟩ := ob H
  refine x_getf fg_X7_79 (gFi_spec e5) dX7_once_23 ?_
  refine x_iconst (1 : Int32) dX7_once_26 ic_1 ?_
  refine x_iload_n 1 rfl dX7_once_27 ?_
  refine x_ishl dX7_once_28 ?_
  refine x_ior dX7_once_29 ?_
  obtain ⟨h6, e6, H⟩ := ob H
  refine x_putf (fp_X7_79 _) rfl rfl e6 dX7_once_30 ?_
  refine x_aload_n 0 rfl dX7_once_33 ?_
  obtain ⟨c7, H⟩ := oit H
  obtain ⟨a7, g7, e7, H⟩ := obR H
  refine x_callU (M' := mi_X6_go) (n := 0) (As := []) (t_X6_go C _ e7) c7 up_X7_20_5 (by decide +kernel) ⟨Nat.le_of_ble_eq_true rfl, Nat.le_of_ble_eq_true rfl⟩ q522 rfl (Nat.le_of_ble_eq_true rfl) dX7_once_34 ?_
  refine x_aload_n 0 rfl dX7_once_37 ?_
  refine x_iload_n 2 rfl dX7_once_38 ?_
  refine x_iload_n 3 rfl dX7_once_39 ?_
  obtain ⟨c8, H⟩ := oit H
  rcases obT H with ⟨a8, h8, e8, rfl⟩ | ⟨v8, h8, e8, H⟩
  · exact x_goX (t_X6_number C _ e8) (x_rU (M' := mi_X6_number) (n := 2) (As := [.int x2, .int x3]) (t_X6_number C _ e8) c8 up_X7_90_5 (by decide +kernel) ⟨Nat.le_of_ble_eq_true rfl, Nat.le_of_ble_eq_true rfl⟩ q918 rfl (Nat.le_of_ble_eq_true rfl) dX7_once_40) hE
  refine x_goR (r := (some (.int v8))) (t_X6_number C _ e8) (x_rU (M' := mi_X6_number) (n := 2) (As := [.int x2, .int x3]) (t_X6_number C _ e8) c8 up_X7_90_5 (by decide +kernel) ⟨Nat.le_of_ble_eq_true rfl, Nat.le_of_ble_eq_true rfl⟩ q918 rfl (Nat.le_of_ble_eq_true rfl) dX7_once_40) ?_
  obtain rfl := Option.some.inj H
  exact x_iretT hE rfl rfl dX7_once_43
def f_X7_once (r0 : Nat) (x1 : Int32) (x2 : Int32) (x3 : Int32) (h : mH) : Option ((Int32 ⊕ Nat) × mH) := (gFi [5] 10 h r0).bind fun v1 => bR (f_X1_isOf v1 x1 h) fun a2 g2 => if a2 = 0 then f_X7_once_b17 r0 x1 x2 x3 r0 (1 : Int32) g2 else f_X7_once_b17 r0 x1 x2 x3 r0 (0 : Int32) g2
theorem t_X7_once {G : xG} (C0 : xC) {l : Launch} {r0 : Nat} {x1 : Int32} {x2 : Int32} {x3 : Int32} (h : mH) {o : (Int32 ⊕ Nat) × mH} (H : f_X7_once r0 x1 x2 x3 h = some o) : XT G l mi_X7_once [.ref r0, .int x1, .int x2, .int x3] h (xoI "StrangerMarket$Fault" o.1) o.2 := by
  refine XT.of C0 (by decide) (Nat.le_of_ble_eq_true rfl) (fun C _ _ _ hE => ?_)
  show X G C mi_X7_once 0 [(0, .ref r0), (1, .int x1), (2, .int x2), (3, .int x3)] [] h
  unfold f_X7_once at H
  refine x_aload_n 0 rfl dX7_once_0 ?_
  refine x_aload_n 0 rfl dX7_once_1 ?_
  obtain ⟨v1, e1, H⟩ := ob H
  refine x_getf fg_X7_79 (gFi_spec e1) dX7_once_2 ?_
  refine x_iload_n 1 rfl dX7_once_5 ?_
  obtain ⟨a2, g2, e2, H⟩ := obR H
  refine x_callSN (M' := mi_X1_isOf) (n := 2) (As := [.int v1, .int x1]) (t_X1_isOf C _ e2) md_X1_isOf ⟨Nat.le_of_ble_eq_true rfl, Nat.le_of_ble_eq_true rfl⟩ q1079 q1080 q120 q1081 rfl (Nat.le_of_ble_eq_true rfl) dX7_once_6 ?_
  refine x_if_ne 16 dX7_once_9 (by decide) (fun c3 => ?_) (fun c3 => ?_)
  · rw [if_neg c3] at H
    refine x_iconst (0 : Int32) dX7_once_16 ic_0 ?_
    exact t_X7_once_b17 hE _ _ _ _ _ _ _ H
  · rw [if_pos c3] at H
    refine x_iconst (1 : Int32) dX7_once_12 ic_1 ?_
    refine x_goto (tgt := 17) dX7_once_13 (by decide) ?_
    exact t_X7_once_b17 hE _ _ _ _ _ _ _ H
abbrev mi_X7_bell : xM := (cX7_bell, yX7_bell, 1, none, 12)
theorem md_X7_bell : xMD mi_X7_bell 0 := ⟨by decide, by decide, by decide +kernel⟩
def f_X7_bell (r0 : Nat) (h : mH) : Option ((Unit ⊕ Nat) × mH) := if gC h r0 ∈ [5] then bR (f_X6_is r0 20 h) fun a1 g1 => if gC g1 r0 ∈ [5] then bT (f_X6_need r0 a1 (1 : Int32) g1) fun v2 h2 => (gFr [5] 9 h2 r0).bind fun v3 => if gC h2 r0 = 5 then bT (f_X7_once r0 (2 : Int32) (2 : Int32) (30 : Int32) h2) fun v4 h4 => (pF [1] 3 (.int v4) h4 v3).bind fun h5 => some (.inl (), h5) else none else none else none
theorem t_X7_bell {G : xG} (C0 : xC) {l : Launch} {r0 : Nat} (h : mH) {o : (Unit ⊕ Nat) × mH} (H : f_X7_bell r0 h = some o) : XT G l mi_X7_bell [.ref r0] h (xoU "StrangerMarket$Fault" o.1) o.2 := by
  refine XT.of C0 (by decide) (Nat.le_of_ble_eq_true rfl) (fun C _ _ _ hE => ?_)
  show X G C mi_X7_bell 0 [(0, .ref r0)] [] h
  unfold f_X7_bell at H
  refine x_aload_n 0 rfl dX7_bell_0 ?_
  refine x_aload_n 0 rfl dX7_bell_1 ?_
  refine x_ldcS (tx := "bell") (a := 20) (List.mem_of_getElem? (i := 12) rfl) (by decide) (by decide) dX7_bell_2 ?_
  obtain ⟨c1, H⟩ := oit H
  obtain ⟨a1, g1, e1, H⟩ := obR H
  refine x_callU (M' := mi_X6_is) (n := 1) (As := [.ref 20]) (t_X6_is C _ e1) c1 up_X7_38_5 (by decide +kernel) ⟨Nat.le_of_ble_eq_true rfl, Nat.le_of_ble_eq_true rfl⟩ q726 rfl (Nat.le_of_ble_eq_true rfl) dX7_bell_4 ?_
  refine x_iconst (1 : Int32) dX7_bell_7 ic_1 ?_
  obtain ⟨c2, H⟩ := oit H
  rcases obT H with ⟨a2, h2, e2, rfl⟩ | ⟨v2, h2, e2, H⟩
  · exact x_goX (t_X6_need C _ e2) (x_rU (M' := mi_X6_need) (n := 2) (As := [.int a1, .int (1 : Int32)]) (t_X6_need C _ e2) c2 up_X7_86_5 (by decide +kernel) ⟨Nat.le_of_ble_eq_true rfl, Nat.le_of_ble_eq_true rfl⟩ q749 rfl (Nat.le_of_ble_eq_true rfl) dX7_bell_8) hE
  refine x_goR (r := none) (t_X6_need C _ e2) (x_rU (M' := mi_X6_need) (n := 2) (As := [.int a1, .int (1 : Int32)]) (t_X6_need C _ e2) c2 up_X7_86_5 (by decide +kernel) ⟨Nat.le_of_ble_eq_true rfl, Nat.le_of_ble_eq_true rfl⟩ q749 rfl (Nat.le_of_ble_eq_true rfl) dX7_bell_8) ?_
  refine x_aload_n 0 rfl dX7_bell_11 ?_
  obtain ⟨v3, e3, H⟩ := ob H
  refine x_getf fg_X7_14 (gFr_spec e3) dX7_bell_12 ?_
  refine x_aload_n 0 rfl dX7_bell_15 ?_
  refine x_iconst (2 : Int32) dX7_bell_16 ic_2 ?_
  refine x_iconst (2 : Int32) dX7_bell_17 ic_2 ?_
  refine x_bipush (30 : Int32) dX7_bell_18 bi_30 ?_
  obtain ⟨c4, H⟩ := oit H
  rcases obT H with ⟨a4, h4, e4, rfl⟩ | ⟨v4, h4, e4, H⟩
  · exact x_goX (t_X7_once C _ e4) (x_rV (M' := mi_X7_once) (n := 3) (As := [.int (2 : Int32), .int (2 : Int32), .int (30 : Int32)]) (t_X7_once C _ e4) c4 rfl rfl md_X7_once ⟨Nat.le_of_ble_eq_true rfl, Nat.le_of_ble_eq_true rfl⟩ q1084 q1086 qs17 q133 q1087 rfl (Nat.le_of_ble_eq_true rfl) dX7_bell_20) hE
  refine x_goR (r := (some (.int v4))) (t_X7_once C _ e4) (x_rV (M' := mi_X7_once) (n := 3) (As := [.int (2 : Int32), .int (2 : Int32), .int (30 : Int32)]) (t_X7_once C _ e4) c4 rfl rfl md_X7_once ⟨Nat.le_of_ble_eq_true rfl, Nat.le_of_ble_eq_true rfl⟩ q1084 q1086 qs17 q133 q1087 rfl (Nat.le_of_ble_eq_true rfl) dX7_bell_20) ?_
  obtain ⟨h5, e5, H⟩ := ob H
  refine x_putf (fp_X7_95 _) rfl rfl e5 dX7_bell_23 ?_
  obtain rfl := Option.some.inj H
  exact x_vretT hE rfl dX7_bell_26
abbrev mi_X7_first : xM := (cX7_first, yX7_first, 3, none, 10)
theorem md_X7_first : xMD mi_X7_first 2 := ⟨by decide, by decide, by decide +kernel⟩
def f_X7_first_b11 (r0 : Nat) (s0 : Nat) (s1 : Int32) (h : mH) : Option ((Unit ⊕ Nat) × mH) := if gC h s0 ∈ [5] then bT (f_X6_need s0 s1 (4 : Int32) h) fun v2 h2 => if gC h2 r0 ∈ [5] then bR (f_X6_go r0  h2) fun a3 g3 => some (.inl (), g3) else none else none
theorem t_X7_first_b11 {G : xG} {C : xC} {o : (Unit ⊕ Nat) × mH} (hE : xEndT G C [] (xoU "StrangerMarket$Fault" o.1) o.2) (r0 : Nat) (s0 : Nat) (s1 : Int32) (h : mH) (H : f_X7_first_b11 r0 s0 s1 h = some o) : X G C mi_X7_first 11 [(0, .ref r0)] [.int s1, .ref s0] h := by
  unfold f_X7_first_b11 at H
  refine x_iconst (4 : Int32) dX7_first_11 ic_4 ?_
  obtain ⟨c2, H⟩ := oit H
  rcases obT H with ⟨a2, h2, e2, rfl⟩ | ⟨v2, h2, e2, H⟩
  · exact x_goX (t_X6_need C _ e2) (x_rU (M' := mi_X6_need) (n := 2) (As := [.int s1, .int (4 : Int32)]) (t_X6_need C _ e2) c2 up_X7_86_5 (by decide +kernel) ⟨Nat.le_of_ble_eq_true rfl, Nat.le_of_ble_eq_true rfl⟩ q749 rfl (Nat.le_of_ble_eq_true rfl) dX7_first_12) hE
  refine x_goR (r := none) (t_X6_need C _ e2) (x_rU (M' := mi_X6_need) (n := 2) (As := [.int s1, .int (4 : Int32)]) (t_X6_need C _ e2) c2 up_X7_86_5 (by decide +kernel) ⟨Nat.le_of_ble_eq_true rfl, Nat.le_of_ble_eq_true rfl⟩ q749 rfl (Nat.le_of_ble_eq_true rfl) dX7_first_12) ?_
  refine x_aload_n 0 rfl dX7_first_15 ?_
  obtain ⟨c3, H⟩ := oit H
  obtain ⟨a3, g3, e3, H⟩ := obR H
  refine x_callU (M' := mi_X6_go) (n := 0) (As := []) (t_X6_go C _ e3) c3 up_X7_20_5 (by decide +kernel) ⟨Nat.le_of_ble_eq_true rfl, Nat.le_of_ble_eq_true rfl⟩ q522 rfl (Nat.le_of_ble_eq_true rfl) dX7_first_16 ?_
  obtain rfl := Option.some.inj H
  exact x_vretT hE rfl dX7_first_19
def f_X7_first (r0 : Nat) (x1 : Int32) (x2 : Int32) (h : mH) : Option ((Unit ⊕ Nat) × mH) := if x2 ≤ x1 then f_X7_first_b11 r0 r0 (0 : Int32) h else f_X7_first_b11 r0 r0 (1 : Int32) h
theorem t_X7_first {G : xG} (C0 : xC) {l : Launch} {r0 : Nat} {x1 : Int32} {x2 : Int32} (h : mH) {o : (Unit ⊕ Nat) × mH} (H : f_X7_first r0 x1 x2 h = some o) : XT G l mi_X7_first [.ref r0, .int x1, .int x2] h (xoU "StrangerMarket$Fault" o.1) o.2 := by
  refine XT.of C0 (by decide) (Nat.le_of_ble_eq_true rfl) (fun C _ _ _ hE => ?_)
  show X G C mi_X7_first 0 [(0, .ref r0), (1, .int x1), (2, .int x2)] [] h
  unfold f_X7_first at H
  refine x_aload_n 0 rfl dX7_first_0 ?_
  refine x_iload_n 1 rfl dX7_first_1 ?_
  refine x_iload_n 2 rfl dX7_first_2 ?_
  refine x_icmp_ge 10 dX7_first_3 (by decide) (fun c1 => ?_) (fun c1 => ?_)
  · rw [if_pos c1] at H
    refine x_iconst (0 : Int32) dX7_first_10 ic_0 ?_
    refine X.sub [0] rfl ?_
    exact t_X7_first_b11 hE _ _ _ _ H
  · rw [if_neg c1] at H
    refine x_iconst (1 : Int32) dX7_first_6 ic_1 ?_
    refine x_goto (tgt := 11) dX7_first_7 (by decide) ?_
    refine X.sub [0] rfl ?_
    exact t_X7_first_b11 hE _ _ _ _ H
abbrev mi_X7_fresh : xM := (cX7_fresh, yX7_fresh, 2, some (.object "java/lang/String"), 11)
theorem md_X7_fresh : xMD mi_X7_fresh 0 := ⟨by decide, by decide, by decide +kernel⟩
def f_X7_fresh_b45 (r0 : Nat) (s0 : Nat) (s1 : Int32) (h : mH) : Option ((Nat ⊕ Nat) × mH) := if gC h s0 ∈ [5] then bT (f_X6_need s0 s1 (3 : Int32) h) fun v7 h7 => (gFr [5] 8 h7 r0).bind fun v8 => if gC h7 r0 ∈ [5] then bR (f_X6_go r0  h7) fun a9 g9 => some (.inl (v8), g9) else none else none
theorem t_X7_fresh_b45 {G : xG} {C : xC} {o : (Nat ⊕ Nat) × mH} (hE : xEndT G C [] (xoA "StrangerMarket$Fault" o.1) o.2) (r0 : Nat) (s0 : Nat) (s1 : Int32) (h : mH) (H : f_X7_fresh_b45 r0 s0 s1 h = some o) : X G C mi_X7_fresh 45 [(0, .ref r0)] [.int s1, .ref s0] h := by
  unfold f_X7_fresh_b45 at H
  refine x_iconst (3 : Int32) dX7_fresh_45 ic_3 ?_
  obtain ⟨c7, H⟩ := oit H
  rcases obT H with ⟨a7, h7, e7, rfl⟩ | ⟨v7, h7, e7, H⟩
  · exact x_goX (t_X6_need C _ e7) (x_rU (M' := mi_X6_need) (n := 2) (As := [.int s1, .int (3 : Int32)]) (t_X6_need C _ e7) c7 up_X7_86_5 (by decide +kernel) ⟨Nat.le_of_ble_eq_true rfl, Nat.le_of_ble_eq_true rfl⟩ q749 rfl (Nat.le_of_ble_eq_true rfl) dX7_fresh_46) hE
  refine x_goR (r := none) (t_X6_need C _ e7) (x_rU (M' := mi_X6_need) (n := 2) (As := [.int s1, .int (3 : Int32)]) (t_X6_need C _ e7) c7 up_X7_86_5 (by decide +kernel) ⟨Nat.le_of_ble_eq_true rfl, Nat.le_of_ble_eq_true rfl⟩ q749 rfl (Nat.le_of_ble_eq_true rfl) dX7_fresh_46) ?_
  refine x_aload_n 0 rfl dX7_fresh_49 ?_
  obtain ⟨v8, e8, H⟩ := ob H
  refine x_getf fg_X7_112 (gFr_spec e8) dX7_fresh_50 ?_
  refine x_astore_n [1, 0] dX7_fresh_53 (by decide) rfl ?_
  refine x_aload_n 0 rfl dX7_fresh_54 ?_
  obtain ⟨c9, H⟩ := oit H
  obtain ⟨a9, g9, e9, H⟩ := obR H
  refine x_callU (M' := mi_X6_go) (n := 0) (As := []) (t_X6_go C _ e9) c9 up_X7_20_5 (by decide +kernel) ⟨Nat.le_of_ble_eq_true rfl, Nat.le_of_ble_eq_true rfl⟩ q522 rfl (Nat.le_of_ble_eq_true rfl) dX7_fresh_55 ?_
  refine x_aload_n 1 rfl dX7_fresh_58 ?_
  obtain rfl := Option.some.inj H
  exact x_aretT hE rfl (by first | exact Or.inl ⟨_, rfl⟩ | exact Or.inr ⟨_, rfl⟩) dX7_fresh_59
def f_X7_fresh_b44 (r0 : Nat) (s0 : Nat) (h : mH) : Option ((Nat ⊕ Nat) × mH) := f_X7_fresh_b45 r0 s0 (0 : Int32) h
theorem t_X7_fresh_b44 {G : xG} {C : xC} {o : (Nat ⊕ Nat) × mH} (hE : xEndT G C [] (xoA "StrangerMarket$Fault" o.1) o.2) (r0 : Nat) (s0 : Nat) (h : mH) (H : f_X7_fresh_b44 r0 s0 h = some o) : X G C mi_X7_fresh 44 [(0, .ref r0)] [.ref s0] h := by
  unfold f_X7_fresh_b44 at H
  refine x_iconst (0 : Int32) dX7_fresh_44 ic_0 ?_
  exact t_X7_fresh_b45 hE _ _ _ _ H
def f_X7_fresh (r0 : Nat) (h : mH) : Option ((Nat ⊕ Nat) × mH) := if gC h r0 ∈ [5] then bR (f_X6_isName r0  h) fun a1 g1 => if gC g1 r0 ∈ [5] then bT (f_X6_need r0 a1 (1 : Int32) g1) fun v2 h2 => (gFr [5] 9 h2 r0).bind fun v3 => (gFr [1] 4 h2 v3).bind fun v4 => if gC h2 r0 ∈ [5] then bR (f_X6_find r0 v4 h2) fun a5 g5 => if a5 = (-1 : Int32) then (gFr [5] 9 g5 r0).bind fun v10 => (gFr [1] 5 g5 v10).bind fun v11 => if gC g5 r0 ∈ [5] then bR (f_X6_find r0 v11 g5) fun a12 g12 => if a12 = (-1 : Int32) then f_X7_fresh_b45 r0 r0 (1 : Int32) g12 else f_X7_fresh_b44 r0 r0 g12 else none else f_X7_fresh_b44 r0 r0 g5 else none else none else none
theorem t_X7_fresh {G : xG} (C0 : xC) {l : Launch} {r0 : Nat} (h : mH) {o : (Nat ⊕ Nat) × mH} (H : f_X7_fresh r0 h = some o) : XT G l mi_X7_fresh [.ref r0] h (xoA "StrangerMarket$Fault" o.1) o.2 := by
  refine XT.of C0 (by decide) (Nat.le_of_ble_eq_true rfl) (fun C _ _ _ hE => ?_)
  show X G C mi_X7_fresh 0 [(0, .ref r0)] [] h
  unfold f_X7_fresh at H
  refine x_aload_n 0 rfl dX7_fresh_0 ?_
  refine x_aload_n 0 rfl dX7_fresh_1 ?_
  obtain ⟨c1, H⟩ := oit H
  obtain ⟨a1, g1, e1, H⟩ := obR H
  refine x_callU (M' := mi_X6_isName) (n := 0) (As := []) (t_X6_isName C _ e1) c1 up_X7_97_5 (by decide +kernel) ⟨Nat.le_of_ble_eq_true rfl, Nat.le_of_ble_eq_true rfl⟩ q827 rfl (Nat.le_of_ble_eq_true rfl) dX7_fresh_2 ?_
  refine x_iconst (1 : Int32) dX7_fresh_5 ic_1 ?_
  obtain ⟨c2, H⟩ := oit H
  rcases obT H with ⟨a2, h2, e2, rfl⟩ | ⟨v2, h2, e2, H⟩
  · exact x_goX (t_X6_need C _ e2) (x_rU (M' := mi_X6_need) (n := 2) (As := [.int a1, .int (1 : Int32)]) (t_X6_need C _ e2) c2 up_X7_86_5 (by decide +kernel) ⟨Nat.le_of_ble_eq_true rfl, Nat.le_of_ble_eq_true rfl⟩ q749 rfl (Nat.le_of_ble_eq_true rfl) dX7_fresh_6) hE
  refine x_goR (r := none) (t_X6_need C _ e2) (x_rU (M' := mi_X6_need) (n := 2) (As := [.int a1, .int (1 : Int32)]) (t_X6_need C _ e2) c2 up_X7_86_5 (by decide +kernel) ⟨Nat.le_of_ble_eq_true rfl, Nat.le_of_ble_eq_true rfl⟩ q749 rfl (Nat.le_of_ble_eq_true rfl) dX7_fresh_6) ?_
  refine x_aload_n 0 rfl dX7_fresh_9 ?_
  refine x_aload_n 0 rfl dX7_fresh_10 ?_
  refine x_aload_n 0 rfl dX7_fresh_11 ?_
  obtain ⟨v3, e3, H⟩ := ob H
  refine x_getf fg_X7_14 (gFr_spec e3) dX7_fresh_12 ?_
  obtain ⟨v4, e4, H⟩ := ob H
  refine x_getf fg_X7_101 (gFr_spec e4) dX7_fresh_15 ?_
  obtain ⟨c5, H⟩ := oit H
  obtain ⟨a5, g5, e5, H⟩ := obR H
  refine x_callU (M' := mi_X6_find) (n := 1) (As := [.ref v4]) (t_X6_find C _ e5) c5 up_X7_105_5 (by decide +kernel) ⟨Nat.le_of_ble_eq_true rfl, Nat.le_of_ble_eq_true rfl⟩ q907 rfl (Nat.le_of_ble_eq_true rfl) dX7_fresh_18 ?_
  refine x_iconst (-1 : Int32) dX7_fresh_21 ic_m1 ?_
  refine x_icmp_ne 44 dX7_fresh_22 (by decide) (fun c6 => ?_) (fun c6 => ?_)
  · rw [if_neg c6] at H
    exact t_X7_fresh_b44 hE _ _ _ H
  · rw [if_pos c6] at H
    refine x_aload_n 0 rfl dX7_fresh_25 ?_
    refine x_aload_n 0 rfl dX7_fresh_26 ?_
    obtain ⟨v10, e10, H⟩ := ob H
    refine x_getf fg_X7_14 (gFr_spec e10) dX7_fresh_27 ?_
    obtain ⟨v11, e11, H⟩ := ob H
    refine x_getf fg_X7_109 (gFr_spec e11) dX7_fresh_30 ?_
    obtain ⟨c12, H⟩ := oit H
    obtain ⟨a12, g12, e12, H⟩ := obR H
    refine x_callU (M' := mi_X6_find) (n := 1) (As := [.ref v11]) (t_X6_find C _ e12) c12 up_X7_105_5 (by decide +kernel) ⟨Nat.le_of_ble_eq_true rfl, Nat.le_of_ble_eq_true rfl⟩ q907 rfl (Nat.le_of_ble_eq_true rfl) dX7_fresh_33 ?_
    refine x_iconst (-1 : Int32) dX7_fresh_36 ic_m1 ?_
    refine x_icmp_ne 44 dX7_fresh_37 (by decide) (fun c13 => ?_) (fun c13 => ?_)
    · rw [if_neg c13] at H
      exact t_X7_fresh_b44 hE _ _ _ H
    · rw [if_pos c13] at H
      refine x_iconst (1 : Int32) dX7_fresh_40 ic_1 ?_
      refine x_goto (tgt := 45) dX7_fresh_41 (by decide) ?_
      exact t_X7_fresh_b45 hE _ _ _ _ H
abbrev mi_X7_good : xM := (cX7_good, yX7_good, 1, none, 12)
theorem md_X7_good : xMD mi_X7_good 0 := ⟨by decide, by decide, by decide +kernel⟩
def f_X7_good (r0 : Nat) (h : mH) : Option ((Unit ⊕ Nat) × mH) := (gFr [5] 9 h r0).bind fun v1 => (gFr [1] 5 h v1).bind fun v2 => if gC h v2 = 21 then bR (f_J2_size v2  h) fun a3 g3 => if gC g3 r0 = 5 then bT (f_X7_first r0 a3 (5 : Int32) g3) fun v4 h4 => (gFr [5] 9 h4 r0).bind fun v5 => (gFr [1] 5 h4 v5).bind fun v6 => if gC (xnw h4 (.inr (9, [.ref 0])) 1) r0 = 5 then bT (f_X7_fresh r0  (xnw h4 (.inr (9, [.ref 0])) 1)) fun v7 h7 => if 6 ≤ h4.2.1 then bR (f_X9_init h4.2.1 v7 h7) fun a8 g8 => if gC g8 v6 = 21 then bR (f_J2_add v6 h4.2.1 g8) fun a9 g9 => some (.inl (), g9) else none else none else none else none else none
theorem t_X7_good {G : xG} (C0 : xC) {l : Launch} {r0 : Nat} (h : mH) {o : (Unit ⊕ Nat) × mH} (H : f_X7_good r0 h = some o) : XT G l mi_X7_good [.ref r0] h (xoU "StrangerMarket$Fault" o.1) o.2 := by
  refine XT.of C0 (by decide) (Nat.le_of_ble_eq_true rfl) (fun C _ _ _ hE => ?_)
  show X G C mi_X7_good 0 [(0, .ref r0)] [] h
  unfold f_X7_good at H
  refine x_aload_n 0 rfl dX7_good_0 ?_
  refine x_aload_n 0 rfl dX7_good_1 ?_
  obtain ⟨v1, e1, H⟩ := ob H
  refine x_getf fg_X7_14 (gFr_spec e1) dX7_good_2 ?_
  obtain ⟨v2, e2, H⟩ := ob H
  refine x_getf fg_X7_109 (gFr_spec e2) dX7_good_5 ?_
  obtain ⟨c3, H⟩ := oit H
  obtain ⟨a3, g3, e3, H⟩ := obR H
  refine x_callV (M' := mi_J2_size) (n := 0) (As := []) (t_J2_size C _ e3) c3 rfl rfl md_J2_size ⟨Nat.le_of_ble_eq_true rfl, Nat.le_of_ble_eq_true rfl⟩ q739 q317 q318 q124 q319 rfl (Nat.le_of_ble_eq_true rfl) dX7_good_8 ?_
  refine x_iconst (5 : Int32) dX7_good_11 ic_5 ?_
  obtain ⟨c4, H⟩ := oit H
  rcases obT H with ⟨a4, h4, e4, rfl⟩ | ⟨v4, h4, e4, H⟩
  · exact x_goX (t_X7_first C _ e4) (x_rV (M' := mi_X7_first) (n := 2) (As := [.int a3, .int (5 : Int32)]) (t_X7_first C _ e4) c4 rfl rfl md_X7_first ⟨Nat.le_of_ble_eq_true rfl, Nat.le_of_ble_eq_true rfl⟩ q740 q742 qs6 q133 q743 rfl (Nat.le_of_ble_eq_true rfl) dX7_good_12) hE
  refine x_goR (r := none) (t_X7_first C _ e4) (x_rV (M' := mi_X7_first) (n := 2) (As := [.int a3, .int (5 : Int32)]) (t_X7_first C _ e4) c4 rfl rfl md_X7_first ⟨Nat.le_of_ble_eq_true rfl, Nat.le_of_ble_eq_true rfl⟩ q740 q742 qs6 q133 q743 rfl (Nat.le_of_ble_eq_true rfl) dX7_good_12) ?_
  refine x_aload_n 0 rfl dX7_good_15 ?_
  obtain ⟨v5, e5, H⟩ := ob H
  refine x_getf fg_X7_14 (gFr_spec e5) dX7_good_16 ?_
  obtain ⟨v6, e6, H⟩ := ob H
  refine x_getf fg_X7_109 (gFr_spec e6) dX7_good_19 ?_
  refine x_new (fs := [.ref 0]) ci_9 q1031 q1032 q144 (nf_X9 G) rfl dX7_good_22 ?_
  refine x_dup dX7_good_25 rfl ?_
  refine x_aload_n 0 rfl dX7_good_26 ?_
  obtain ⟨c7, H⟩ := oit H
  rcases obT H with ⟨a7, h7, e7, rfl⟩ | ⟨v7, h7, e7, H⟩
  · exact x_goX (t_X7_fresh C _ e7) (x_rV (M' := mi_X7_fresh) (n := 0) (As := []) (t_X7_fresh C _ e7) c7 rfl rfl md_X7_fresh ⟨Nat.le_of_ble_eq_true rfl, Nat.le_of_ble_eq_true rfl⟩ q818 q820 qs8 q133 q821 rfl (Nat.le_of_ble_eq_true rfl) dX7_good_27) hE
  refine x_goR (r := (some (.ref v7))) (t_X7_fresh C _ e7) (x_rV (M' := mi_X7_fresh) (n := 0) (As := []) (t_X7_fresh C _ e7) c7 rfl rfl md_X7_fresh ⟨Nat.le_of_ble_eq_true rfl, Nat.le_of_ble_eq_true rfl⟩ q818 q820 qs8 q133 q821 rfl (Nat.le_of_ble_eq_true rfl) dX7_good_27) ?_
  obtain ⟨c8, H⟩ := oit H
  obtain ⟨a8, g8, e8, H⟩ := obR H
  refine x_callI (M' := mi_X9_init) (n := 1) (As := [.ref v7]) (t_X9_init C _ e8) c8 md_X9_init ⟨Nat.le_of_ble_eq_true rfl, Nat.le_of_ble_eq_true rfl⟩ rfl rfl q1033 q928 q144 q929 rfl (Nat.le_of_ble_eq_true rfl) dX7_good_30 ?_
  obtain ⟨c9, H⟩ := oit H
  obtain ⟨a9, g9, e9, H⟩ := obR H
  refine x_callV (M' := mi_J2_add) (n := 1) (As := [.ref h4.2.1]) (t_J2_add C _ e9) c9 rfl rfl md_J2_add ⟨Nat.le_of_ble_eq_true rfl, Nat.le_of_ble_eq_true rfl⟩ q969 q970 q971 q124 q972 rfl (Nat.le_of_ble_eq_true rfl) dX7_good_33 ?_
  refine x_pop dX7_good_36 rfl ?_
  obtain rfl := Option.some.inj H
  exact x_vretT hE rfl dX7_good_37
abbrev mi_X7_pair : xM := (cX7_pair, yX7_pair, 6, none, 13)
theorem md_X7_pair : xMD mi_X7_pair 1 := ⟨by decide, by decide, by decide +kernel⟩
def f_X7_pair_b158 (r0 : Nat) (h : mH) : Option ((Unit ⊕ Nat) × mH) := if gC h r0 ∈ [5] then bR (f_X6_go r0  h) fun a23 g23 => some (.inl (), g23) else none
theorem t_X7_pair_b158 {G : xG} {C : xC} {o : (Unit ⊕ Nat) × mH} (hE : xEndT G C [] (xoU "StrangerMarket$Fault" o.1) o.2) (r0 : Nat) (h : mH) (H : f_X7_pair_b158 r0 h = some o) : X G C mi_X7_pair 158 [(0, .ref r0)] [] h := by
  unfold f_X7_pair_b158 at H
  refine x_aload_n 0 rfl dX7_pair_158 ?_
  obtain ⟨c23, H⟩ := oit H
  obtain ⟨a23, g23, e23, H⟩ := obR H
  refine x_callU (M' := mi_X6_go) (n := 0) (As := []) (t_X6_go C _ e23) c23 up_X7_20_5 (by decide +kernel) ⟨Nat.le_of_ble_eq_true rfl, Nat.le_of_ble_eq_true rfl⟩ q522 rfl (Nat.le_of_ble_eq_true rfl) dX7_pair_159 ?_
  obtain rfl := Option.some.inj H
  exact x_vretT hE rfl dX7_pair_162
def f_X7_pair_b95 (r0 : Nat) (x1 : Int32) (x2 : Int32) (x3 : Int32) (r4 : Nat) (r5 : Nat) (s0 : Nat) (s1 : Int32) (h : mH) : Option ((Unit ⊕ Nat) × mH) := if gC h s0 ∈ [5] then bT (f_X6_need s0 s1 (3 : Int32) h) fun v17 h17 => if x1 = 0 then (gFi [10] 3 h17 r4).bind fun v19 => (pF [10] 3 (.int (v19 ||| ((1 : Int32) <<< (x3 &&& 31)))) h17 r4).bind fun h20 => (gFi [10] 3 h20 r5).bind fun v21 => (pF [10] 3 (.int (v21 ||| ((1 : Int32) <<< (x2 &&& 31)))) h20 r5).bind fun h22 => f_X7_pair_b158 r0 h22 else (gFi [10] 2 h17 r4).bind fun v24 => (pF [10] 2 (.int (v24 ||| ((1 : Int32) <<< (x3 &&& 31)))) h17 r4).bind fun h25 => (gFi [10] 2 h25 r5).bind fun v26 => (pF [10] 2 (.int (v26 ||| ((1 : Int32) <<< (x2 &&& 31)))) h25 r5).bind fun h27 => f_X7_pair_b158 r0 h27 else none
theorem t_X7_pair_b95 {G : xG} {C : xC} {o : (Unit ⊕ Nat) × mH} (hE : xEndT G C [] (xoU "StrangerMarket$Fault" o.1) o.2) (r0 : Nat) (x1 : Int32) (x2 : Int32) (x3 : Int32) (r4 : Nat) (r5 : Nat) (s0 : Nat) (s1 : Int32) (h : mH) (H : f_X7_pair_b95 r0 x1 x2 x3 r4 r5 s0 s1 h = some o) : X G C mi_X7_pair 95 [(0, .ref r0), (1, .int x1), (2, .int x2), (3, .int x3), (4, .ref r4), (5, .ref r5)] [.int s1, .ref s0] h := by
  unfold f_X7_pair_b95 at H
  refine x_iconst (3 : Int32) dX7_pair_95 ic_3 ?_
  obtain ⟨c17, H⟩ := oit H
  rcases obT H with ⟨a17, h17, e17, rfl⟩ | ⟨v17, h17, e17, H⟩
  · exact x_goX (t_X6_need C _ e17) (x_rU (M' := mi_X6_need) (n := 2) (As := [.int s1, .int (3 : Int32)]) (t_X6_need C _ e17) c17 up_X7_86_5 (by decide +kernel) ⟨Nat.le_of_ble_eq_true rfl, Nat.le_of_ble_eq_true rfl⟩ q749 rfl (Nat.le_of_ble_eq_true rfl) dX7_pair_96) hE
  refine x_goR (r := none) (t_X6_need C _ e17) (x_rU (M' := mi_X6_need) (n := 2) (As := [.int s1, .int (3 : Int32)]) (t_X6_need C _ e17) c17 up_X7_86_5 (by decide +kernel) ⟨Nat.le_of_ble_eq_true rfl, Nat.le_of_ble_eq_true rfl⟩ q749 rfl (Nat.le_of_ble_eq_true rfl) dX7_pair_96) ?_
  refine x_iload_n 1 rfl dX7_pair_99 ?_
  refine x_if_eq 132 dX7_pair_100 (by decide) (fun c18 => ?_) (fun c18 => ?_)
  · rw [if_pos c18] at H
    refine x_aload 4 rfl dX7_pair_132 ?_
    refine x_dup dX7_pair_134 rfl ?_
    obtain ⟨v19, e19, H⟩ := ob H
    refine x_getf fg_X7_173 (gFi_spec e19) dX7_pair_135 ?_
    refine x_iconst (1 : Int32) dX7_pair_138 ic_1 ?_
    refine x_iload_n 3 rfl dX7_pair_139 ?_
    refine x_ishl dX7_pair_140 ?_
    refine x_ior dX7_pair_141 ?_
    obtain ⟨h20, e20, H⟩ := ob H
    refine x_putf (fp_X7_173 _) rfl rfl e20 dX7_pair_142 ?_
    refine x_aload 5 rfl dX7_pair_145 ?_
    refine x_dup dX7_pair_147 rfl ?_
    obtain ⟨v21, e21, H⟩ := ob H
    refine x_getf fg_X7_173 (gFi_spec e21) dX7_pair_148 ?_
    refine x_iconst (1 : Int32) dX7_pair_151 ic_1 ?_
    refine x_iload_n 2 rfl dX7_pair_152 ?_
    refine x_ishl dX7_pair_153 ?_
    refine x_ior dX7_pair_154 ?_
    obtain ⟨h22, e22, H⟩ := ob H
    refine x_putf (fp_X7_173 _) rfl rfl e22 dX7_pair_155 ?_
    refine X.sub [0] rfl ?_
    exact t_X7_pair_b158 hE _ _ H
  · rw [if_neg c18] at H
    refine x_aload 4 rfl dX7_pair_103 ?_
    refine x_dup dX7_pair_105 rfl ?_
    obtain ⟨v24, e24, H⟩ := ob H
    refine x_getf fg_X7_171 (gFi_spec e24) dX7_pair_106 ?_
    refine x_iconst (1 : Int32) dX7_pair_109 ic_1 ?_
    refine x_iload_n 3 rfl dX7_pair_110 ?_
    refine x_ishl dX7_pair_111 ?_
    refine x_ior dX7_pair_112 ?_
    obtain ⟨h25, e25, H⟩ := ob H
    refine x_putf (fp_X7_171 _) rfl rfl e25 dX7_pair_113 ?_
    refine x_aload 5 rfl dX7_pair_116 ?_
    refine x_dup dX7_pair_118 rfl ?_
    obtain ⟨v26, e26, H⟩ := ob H
    refine x_getf fg_X7_171 (gFi_spec e26) dX7_pair_119 ?_
    refine x_iconst (1 : Int32) dX7_pair_122 ic_1 ?_
    refine x_iload_n 2 rfl dX7_pair_123 ?_
    refine x_ishl dX7_pair_124 ?_
    refine x_ior dX7_pair_125 ?_
    obtain ⟨h27, e27, H⟩ := ob H
    refine x_putf (fp_X7_171 _) rfl rfl e27 dX7_pair_126 ?_
    refine x_goto (tgt := 158) dX7_pair_129 (by decide) ?_
    refine X.sub [0] rfl ?_
    exact t_X7_pair_b158 hE _ _ H
def f_X7_pair_b94 (r0 : Nat) (x1 : Int32) (x2 : Int32) (x3 : Int32) (r4 : Nat) (r5 : Nat) (s0 : Nat) (h : mH) : Option ((Unit ⊕ Nat) × mH) := f_X7_pair_b95 r0 x1 x2 x3 r4 r5 s0 (0 : Int32) h
theorem t_X7_pair_b94 {G : xG} {C : xC} {o : (Unit ⊕ Nat) × mH} (hE : xEndT G C [] (xoU "StrangerMarket$Fault" o.1) o.2) (r0 : Nat) (x1 : Int32) (x2 : Int32) (x3 : Int32) (r4 : Nat) (r5 : Nat) (s0 : Nat) (h : mH) (H : f_X7_pair_b94 r0 x1 x2 x3 r4 r5 s0 h = some o) : X G C mi_X7_pair 94 [(0, .ref r0), (1, .int x1), (2, .int x2), (3, .int x3), (4, .ref r4), (5, .ref r5)] [.ref s0] h := by
  unfold f_X7_pair_b94 at H
  refine x_iconst (0 : Int32) dX7_pair_94 ic_0 ?_
  exact t_X7_pair_b95 hE _ _ _ _ _ _ _ _ _ H
def f_X7_pair_b83 (r0 : Nat) (x1 : Int32) (x2 : Int32) (x3 : Int32) (r4 : Nat) (r5 : Nat) (s0 : Nat) (s1 : Int32) (h : mH) : Option ((Unit ⊕ Nat) × mH) := bR (f_X1_isOf s1 x3 h) fun a30 g30 => if a30 = 0 then f_X7_pair_b95 r0 x1 x2 x3 r4 r5 s0 (1 : Int32) g30 else f_X7_pair_b94 r0 x1 x2 x3 r4 r5 s0 g30
theorem t_X7_pair_b83 {G : xG} {C : xC} {o : (Unit ⊕ Nat) × mH} (hE : xEndT G C [] (xoU "StrangerMarket$Fault" o.1) o.2) (r0 : Nat) (x1 : Int32) (x2 : Int32) (x3 : Int32) (r4 : Nat) (r5 : Nat) (s0 : Nat) (s1 : Int32) (h : mH) (H : f_X7_pair_b83 r0 x1 x2 x3 r4 r5 s0 s1 h = some o) : X G C mi_X7_pair 83 [(0, .ref r0), (1, .int x1), (2, .int x2), (3, .int x3), (4, .ref r4), (5, .ref r5)] [.int s1, .ref s0] h := by
  unfold f_X7_pair_b83 at H
  refine x_iload_n 3 rfl dX7_pair_83 ?_
  obtain ⟨a30, g30, e30, H⟩ := obR H
  refine x_callSN (M' := mi_X1_isOf) (n := 2) (As := [.int s1, .int x3]) (t_X1_isOf C _ e30) md_X1_isOf ⟨Nat.le_of_ble_eq_true rfl, Nat.le_of_ble_eq_true rfl⟩ q1079 q1080 q120 q1081 rfl (Nat.le_of_ble_eq_true rfl) dX7_pair_84 ?_
  refine x_if_ne 94 dX7_pair_87 (by decide) (fun c31 => ?_) (fun c31 => ?_)
  · rw [if_neg c31] at H
    exact t_X7_pair_b94 hE _ _ _ _ _ _ _ _ H
  · rw [if_pos c31] at H
    refine x_iconst (1 : Int32) dX7_pair_90 ic_1 ?_
    refine x_goto (tgt := 95) dX7_pair_91 (by decide) ?_
    exact t_X7_pair_b95 hE _ _ _ _ _ _ _ _ _ H
def f_X7_pair (r0 : Nat) (x1 : Int32) (h : mH) : Option ((Unit ⊕ Nat) × mH) := if gC h r0 ∈ [5] then bR (f_X6_go r0  h) fun a1 g1 => (gFr [5] 9 g1 r0).bind fun v2 => (gFr [1] 4 g1 v2).bind fun v3 => if gC g1 r0 ∈ [5] then bT (f_X6_one r0 v3 g1) fun v4 h4 => (gFr [5] 9 h4 r0).bind fun v5 => (gFr [1] 4 h4 v5).bind fun v6 => if gC h4 r0 ∈ [5] then bT (f_X6_hold r0 v6 h4) fun v7 h7 => (gFr [5] 9 h7 r0).bind fun v8 => (gFr [1] 4 h7 v8).bind fun v9 => if gC h7 v9 = 21 then bR (f_J2_get v9 v4 h7) fun a10 g10 => if a10 = 0 ∨ gC g10 a10 ∈ [10] then (gFr [5] 9 g10 r0).bind fun v12 => (gFr [1] 4 g10 v12).bind fun v13 => if gC g10 v13 = 21 then bR (f_J2_get v13 v7 g10) fun a14 g14 => if a14 = 0 ∨ gC g14 a14 ∈ [10] then if v4 = v7 then f_X7_pair_b94 r0 x1 v4 v7 a10 a14 r0 g14 else if x1 = 0 then (gFi [10] 3 g14 a10).bind fun v29 => f_X7_pair_b83 r0 x1 v4 v7 a10 a14 r0 v29 g14 else (gFi [10] 2 g14 a10).bind fun v32 => f_X7_pair_b83 r0 x1 v4 v7 a10 a14 r0 v32 g14 else none else none else none else none else none else none else none
theorem t_X7_pair {G : xG} (C0 : xC) {l : Launch} {r0 : Nat} {x1 : Int32} (h : mH) {o : (Unit ⊕ Nat) × mH} (H : f_X7_pair r0 x1 h = some o) : XT G l mi_X7_pair [.ref r0, .int x1] h (xoU "StrangerMarket$Fault" o.1) o.2 := by
  refine XT.of C0 (by decide) (Nat.le_of_ble_eq_true rfl) (fun C _ _ _ hE => ?_)
  show X G C mi_X7_pair 0 [(0, .ref r0), (1, .int x1)] [] h
  unfold f_X7_pair at H
  refine x_aload_n 0 rfl dX7_pair_0 ?_
  obtain ⟨c1, H⟩ := oit H
  obtain ⟨a1, g1, e1, H⟩ := obR H
  refine x_callU (M' := mi_X6_go) (n := 0) (As := []) (t_X6_go C _ e1) c1 up_X7_20_5 (by decide +kernel) ⟨Nat.le_of_ble_eq_true rfl, Nat.le_of_ble_eq_true rfl⟩ q522 rfl (Nat.le_of_ble_eq_true rfl) dX7_pair_1 ?_
  refine x_aload_n 0 rfl dX7_pair_4 ?_
  refine x_aload_n 0 rfl dX7_pair_5 ?_
  obtain ⟨v2, e2, H⟩ := ob H
  refine x_getf fg_X7_14 (gFr_spec e2) dX7_pair_6 ?_
  obtain ⟨v3, e3, H⟩ := ob H
  refine x_getf fg_X7_101 (gFr_spec e3) dX7_pair_9 ?_
  obtain ⟨c4, H⟩ := oit H
  rcases obT H with ⟨a4, h4, e4, rfl⟩ | ⟨v4, h4, e4, H⟩
  · exact x_goX (t_X6_one C _ e4) (x_rU (M' := mi_X6_one) (n := 1) (As := [.ref v3]) (t_X6_one C _ e4) c4 up_X7_154_5 (by decide +kernel) ⟨Nat.le_of_ble_eq_true rfl, Nat.le_of_ble_eq_true rfl⟩ q1046 rfl (Nat.le_of_ble_eq_true rfl) dX7_pair_12) hE
  refine x_goR (r := (some (.int v4))) (t_X6_one C _ e4) (x_rU (M' := mi_X6_one) (n := 1) (As := [.ref v3]) (t_X6_one C _ e4) c4 up_X7_154_5 (by decide +kernel) ⟨Nat.le_of_ble_eq_true rfl, Nat.le_of_ble_eq_true rfl⟩ q1046 rfl (Nat.le_of_ble_eq_true rfl) dX7_pair_12) ?_
  refine x_istore_n [1, 2, 0] dX7_pair_15 (by decide) rfl ?_
  refine x_aload_n 0 rfl dX7_pair_16 ?_
  refine x_aload_n 0 rfl dX7_pair_17 ?_
  obtain ⟨v5, e5, H⟩ := ob H
  refine x_getf fg_X7_14 (gFr_spec e5) dX7_pair_18 ?_
  obtain ⟨v6, e6, H⟩ := ob H
  refine x_getf fg_X7_101 (gFr_spec e6) dX7_pair_21 ?_
  obtain ⟨c7, H⟩ := oit H
  rcases obT H with ⟨a7, h7, e7, rfl⟩ | ⟨v7, h7, e7, H⟩
  · exact x_goX (t_X6_hold C _ e7) (x_rU (M' := mi_X6_hold) (n := 1) (As := [.ref v6]) (t_X6_hold C _ e7) c7 up_X7_144_5 (by decide +kernel) ⟨Nat.le_of_ble_eq_true rfl, Nat.le_of_ble_eq_true rfl⟩ q1053 rfl (Nat.le_of_ble_eq_true rfl) dX7_pair_24) hE
  refine x_goR (r := (some (.int v7))) (t_X6_hold C _ e7) (x_rU (M' := mi_X6_hold) (n := 1) (As := [.ref v6]) (t_X6_hold C _ e7) c7 up_X7_144_5 (by decide +kernel) ⟨Nat.le_of_ble_eq_true rfl, Nat.le_of_ble_eq_true rfl⟩ q1053 rfl (Nat.le_of_ble_eq_true rfl) dX7_pair_24) ?_
  refine x_istore_n [1, 2, 3, 0] dX7_pair_27 (by decide) rfl ?_
  refine x_aload_n 0 rfl dX7_pair_28 ?_
  obtain ⟨v8, e8, H⟩ := ob H
  refine x_getf fg_X7_14 (gFr_spec e8) dX7_pair_29 ?_
  obtain ⟨v9, e9, H⟩ := ob H
  refine x_getf fg_X7_101 (gFr_spec e9) dX7_pair_32 ?_
  refine x_iload_n 2 rfl dX7_pair_35 ?_
  obtain ⟨c10, H⟩ := oit H
  obtain ⟨a10, g10, e10, H⟩ := obR H
  refine x_callV (M' := mi_J2_get) (n := 1) (As := [.int v4]) (t_J2_get C _ e10) c10 rfl rfl md_J2_get ⟨Nat.le_of_ble_eq_true rfl, Nat.le_of_ble_eq_true rfl⟩ q1056 q325 q326 q124 q327 rfl (Nat.le_of_ble_eq_true rfl) dX7_pair_36 ?_
  obtain ⟨c11, H⟩ := oit H
  refine x_cast cs_StrangerMarket_Person q911 c11 dX7_pair_39 ?_
  refine x_astore [1, 2, 3, 4, 0] dX7_pair_42 (by decide) rfl ?_
  refine x_aload_n 0 rfl dX7_pair_44 ?_
  obtain ⟨v12, e12, H⟩ := ob H
  refine x_getf fg_X7_14 (gFr_spec e12) dX7_pair_45 ?_
  obtain ⟨v13, e13, H⟩ := ob H
  refine x_getf fg_X7_101 (gFr_spec e13) dX7_pair_48 ?_
  refine x_iload_n 3 rfl dX7_pair_51 ?_
  obtain ⟨c14, H⟩ := oit H
  obtain ⟨a14, g14, e14, H⟩ := obR H
  refine x_callV (M' := mi_J2_get) (n := 1) (As := [.int v7]) (t_J2_get C _ e14) c14 rfl rfl md_J2_get ⟨Nat.le_of_ble_eq_true rfl, Nat.le_of_ble_eq_true rfl⟩ q1056 q325 q326 q124 q327 rfl (Nat.le_of_ble_eq_true rfl) dX7_pair_52 ?_
  obtain ⟨c15, H⟩ := oit H
  refine x_cast cs_StrangerMarket_Person q911 c15 dX7_pair_55 ?_
  refine x_astore [1, 2, 3, 4, 5, 0] dX7_pair_58 (by decide) rfl ?_
  refine x_aload_n 0 rfl dX7_pair_60 ?_
  refine x_iload_n 2 rfl dX7_pair_61 ?_
  refine x_iload_n 3 rfl dX7_pair_62 ?_
  refine x_icmp_eq 94 dX7_pair_63 (by decide) (fun c16 => ?_) (fun c16 => ?_)
  · rw [if_pos c16] at H
    exact t_X7_pair_b94 hE _ _ _ _ _ _ _ _ H
  · rw [if_neg c16] at H
    refine x_iload_n 1 rfl dX7_pair_66 ?_
    refine x_if_eq 78 dX7_pair_67 (by decide) (fun c28 => ?_) (fun c28 => ?_)
    · rw [if_pos c28] at H
      refine x_aload 4 rfl dX7_pair_78 ?_
      obtain ⟨v29, e29, H⟩ := ob H
      refine x_getf fg_X7_173 (gFi_spec e29) dX7_pair_80 ?_
      exact t_X7_pair_b83 hE _ _ _ _ _ _ _ _ _ H
    · rw [if_neg c28] at H
      refine x_aload 4 rfl dX7_pair_70 ?_
      obtain ⟨v32, e32, H⟩ := ob H
      refine x_getf fg_X7_171 (gFi_spec e32) dX7_pair_72 ?_
      refine x_goto (tgt := 83) dX7_pair_75 (by decide) ?_
      exact t_X7_pair_b83 hE _ _ _ _ _ _ _ _ _ H
abbrev mi_X7_person : xM := (cX7_person, yX7_person, 2, none, 12)
theorem md_X7_person : xMD mi_X7_person 0 := ⟨by decide, by decide, by decide +kernel⟩
def f_X7_person (r0 : Nat) (h : mH) : Option ((Unit ⊕ Nat) × mH) := (gFr [5] 9 h r0).bind fun v1 => (gFr [1] 4 h v1).bind fun v2 => if gC h v2 = 21 then bR (f_J2_size v2  h) fun a3 g3 => if gC g3 r0 = 5 then bT (f_X7_first r0 a3 (7 : Int32) g3) fun v4 h4 => if gC h4 r0 = 5 then bT (f_X7_fresh r0  h4) fun v5 h5 => (gFr [5] 9 h5 r0).bind fun v6 => (gFr [1] 4 h5 v6).bind fun v7 => if gC (xnw h5 (.inr (10, [.ref 0, .int 0, .int 0, .int 0, .ref 0, .ref 0, .ref 0])) 7) r0 ∈ [5] then bT (f_X6_number r0 (0 : Int32) (99 : Int32) (xnw h5 (.inr (10, [.ref 0, .int 0, .int 0, .int 0, .ref 0, .ref 0, .ref 0])) 7)) fun v8 h8 => if 6 ≤ h5.2.1 then bR (f_X10_init h5.2.1 v5 v8 h8) fun a9 g9 => if gC g9 v7 = 21 then bR (f_J2_add v7 h5.2.1 g9) fun a10 g10 => some (.inl (), g10) else none else none else none else none else none else none
theorem t_X7_person {G : xG} (C0 : xC) {l : Launch} {r0 : Nat} (h : mH) {o : (Unit ⊕ Nat) × mH} (H : f_X7_person r0 h = some o) : XT G l mi_X7_person [.ref r0] h (xoU "StrangerMarket$Fault" o.1) o.2 := by
  refine XT.of C0 (by decide) (Nat.le_of_ble_eq_true rfl) (fun C _ _ _ hE => ?_)
  show X G C mi_X7_person 0 [(0, .ref r0)] [] h
  unfold f_X7_person at H
  refine x_aload_n 0 rfl dX7_person_0 ?_
  refine x_aload_n 0 rfl dX7_person_1 ?_
  obtain ⟨v1, e1, H⟩ := ob H
  refine x_getf fg_X7_14 (gFr_spec e1) dX7_person_2 ?_
  obtain ⟨v2, e2, H⟩ := ob H
  refine x_getf fg_X7_101 (gFr_spec e2) dX7_person_5 ?_
  obtain ⟨c3, H⟩ := oit H
  obtain ⟨a3, g3, e3, H⟩ := obR H
  refine x_callV (M' := mi_J2_size) (n := 0) (As := []) (t_J2_size C _ e3) c3 rfl rfl md_J2_size ⟨Nat.le_of_ble_eq_true rfl, Nat.le_of_ble_eq_true rfl⟩ q739 q317 q318 q124 q319 rfl (Nat.le_of_ble_eq_true rfl) dX7_person_8 ?_
  refine x_bipush (7 : Int32) dX7_person_11 bi_7 ?_
  obtain ⟨c4, H⟩ := oit H
  rcases obT H with ⟨a4, h4, e4, rfl⟩ | ⟨v4, h4, e4, H⟩
  · exact x_goX (t_X7_first C _ e4) (x_rV (M' := mi_X7_first) (n := 2) (As := [.int a3, .int (7 : Int32)]) (t_X7_first C _ e4) c4 rfl rfl md_X7_first ⟨Nat.le_of_ble_eq_true rfl, Nat.le_of_ble_eq_true rfl⟩ q740 q742 qs6 q133 q743 rfl (Nat.le_of_ble_eq_true rfl) dX7_person_13) hE
  refine x_goR (r := none) (t_X7_first C _ e4) (x_rV (M' := mi_X7_first) (n := 2) (As := [.int a3, .int (7 : Int32)]) (t_X7_first C _ e4) c4 rfl rfl md_X7_first ⟨Nat.le_of_ble_eq_true rfl, Nat.le_of_ble_eq_true rfl⟩ q740 q742 qs6 q133 q743 rfl (Nat.le_of_ble_eq_true rfl) dX7_person_13) ?_
  refine x_aload_n 0 rfl dX7_person_16 ?_
  obtain ⟨c5, H⟩ := oit H
  rcases obT H with ⟨a5, h5, e5, rfl⟩ | ⟨v5, h5, e5, H⟩
  · exact x_goX (t_X7_fresh C _ e5) (x_rV (M' := mi_X7_fresh) (n := 0) (As := []) (t_X7_fresh C _ e5) c5 rfl rfl md_X7_fresh ⟨Nat.le_of_ble_eq_true rfl, Nat.le_of_ble_eq_true rfl⟩ q818 q820 qs8 q133 q821 rfl (Nat.le_of_ble_eq_true rfl) dX7_person_17) hE
  refine x_goR (r := (some (.ref v5))) (t_X7_fresh C _ e5) (x_rV (M' := mi_X7_fresh) (n := 0) (As := []) (t_X7_fresh C _ e5) c5 rfl rfl md_X7_fresh ⟨Nat.le_of_ble_eq_true rfl, Nat.le_of_ble_eq_true rfl⟩ q818 q820 qs8 q133 q821 rfl (Nat.le_of_ble_eq_true rfl) dX7_person_17) ?_
  refine x_astore_n [1, 0] dX7_person_20 (by decide) rfl ?_
  refine x_aload_n 0 rfl dX7_person_21 ?_
  obtain ⟨v6, e6, H⟩ := ob H
  refine x_getf fg_X7_14 (gFr_spec e6) dX7_person_22 ?_
  obtain ⟨v7, e7, H⟩ := ob H
  refine x_getf fg_X7_101 (gFr_spec e7) dX7_person_25 ?_
  refine x_new (fs := [.ref 0, .int 0, .int 0, .int 0, .ref 0, .ref 0, .ref 0]) ci_10 q911 q912 q145 (nf_X10 G) rfl dX7_person_28 ?_
  refine x_dup dX7_person_31 rfl ?_
  refine x_aload_n 1 rfl dX7_person_32 ?_
  refine x_aload_n 0 rfl dX7_person_33 ?_
  refine x_iconst (0 : Int32) dX7_person_34 ic_0 ?_
  refine x_bipush (99 : Int32) dX7_person_35 bi_99 ?_
  obtain ⟨c8, H⟩ := oit H
  rcases obT H with ⟨a8, h8, e8, rfl⟩ | ⟨v8, h8, e8, H⟩
  · exact x_goX (t_X6_number C _ e8) (x_rU (M' := mi_X6_number) (n := 2) (As := [.int (0 : Int32), .int (99 : Int32)]) (t_X6_number C _ e8) c8 up_X7_90_5 (by decide +kernel) ⟨Nat.le_of_ble_eq_true rfl, Nat.le_of_ble_eq_true rfl⟩ q918 rfl (Nat.le_of_ble_eq_true rfl) dX7_person_37) hE
  refine x_goR (r := (some (.int v8))) (t_X6_number C _ e8) (x_rU (M' := mi_X6_number) (n := 2) (As := [.int (0 : Int32), .int (99 : Int32)]) (t_X6_number C _ e8) c8 up_X7_90_5 (by decide +kernel) ⟨Nat.le_of_ble_eq_true rfl, Nat.le_of_ble_eq_true rfl⟩ q918 rfl (Nat.le_of_ble_eq_true rfl) dX7_person_37) ?_
  obtain ⟨c9, H⟩ := oit H
  obtain ⟨a9, g9, e9, H⟩ := obR H
  refine x_callI (M' := mi_X10_init) (n := 2) (As := [.ref v5, .int v8]) (t_X10_init C _ e9) c9 md_X10_init ⟨Nat.le_of_ble_eq_true rfl, Nat.le_of_ble_eq_true rfl⟩ rfl rfl q924 q925 q145 q926 rfl (Nat.le_of_ble_eq_true rfl) dX7_person_40 ?_
  obtain ⟨c10, H⟩ := oit H
  obtain ⟨a10, g10, e10, H⟩ := obR H
  refine x_callV (M' := mi_J2_add) (n := 1) (As := [.ref h5.2.1]) (t_J2_add C _ e10) c10 rfl rfl md_J2_add ⟨Nat.le_of_ble_eq_true rfl, Nat.le_of_ble_eq_true rfl⟩ q969 q970 q971 q124 q972 rfl (Nat.le_of_ble_eq_true rfl) dX7_person_43 ?_
  refine x_pop dX7_person_46 rfl ?_
  obtain rfl := Option.some.inj H
  exact x_vretT hE rfl dX7_person_47
abbrev mi_X7_freshGood : xM := (cX7_freshGood, yX7_freshGood, 3, some .int, 12)
theorem md_X7_freshGood : xMD mi_X7_freshGood 1 := ⟨by decide, by decide, by decide +kernel⟩
def f_X7_freshGood_b35 (r0 : Nat) (x2 : Int32) (s0 : Nat) (s1 : Int32) (h : mH) : Option ((Int32 ⊕ Nat) × mH) := if gC h s0 ∈ [5] then bT (f_X6_need s0 s1 (3 : Int32) h) fun v6 h6 => if gC h6 r0 ∈ [5] then bR (f_X6_go r0  h6) fun a7 g7 => some (.inl x2, g7) else none else none
theorem t_X7_freshGood_b35 {G : xG} {C : xC} {o : (Int32 ⊕ Nat) × mH} (hE : xEndT G C [] (xoI "StrangerMarket$Fault" o.1) o.2) (r0 : Nat) (x2 : Int32) (s0 : Nat) (s1 : Int32) (h : mH) (H : f_X7_freshGood_b35 r0 x2 s0 s1 h = some o) : X G C mi_X7_freshGood 35 [(0, .ref r0), (2, .int x2)] [.int s1, .ref s0] h := by
  unfold f_X7_freshGood_b35 at H
  refine x_iconst (3 : Int32) dX7_freshGood_35 ic_3 ?_
  obtain ⟨c6, H⟩ := oit H
  rcases obT H with ⟨a6, h6, e6, rfl⟩ | ⟨v6, h6, e6, H⟩
  · exact x_goX (t_X6_need C _ e6) (x_rU (M' := mi_X6_need) (n := 2) (As := [.int s1, .int (3 : Int32)]) (t_X6_need C _ e6) c6 up_X7_86_5 (by decide +kernel) ⟨Nat.le_of_ble_eq_true rfl, Nat.le_of_ble_eq_true rfl⟩ q749 rfl (Nat.le_of_ble_eq_true rfl) dX7_freshGood_36) hE
  refine x_goR (r := none) (t_X6_need C _ e6) (x_rU (M' := mi_X6_need) (n := 2) (As := [.int s1, .int (3 : Int32)]) (t_X6_need C _ e6) c6 up_X7_86_5 (by decide +kernel) ⟨Nat.le_of_ble_eq_true rfl, Nat.le_of_ble_eq_true rfl⟩ q749 rfl (Nat.le_of_ble_eq_true rfl) dX7_freshGood_36) ?_
  refine x_aload_n 0 rfl dX7_freshGood_39 ?_
  obtain ⟨c7, H⟩ := oit H
  obtain ⟨a7, g7, e7, H⟩ := obR H
  refine x_callU (M' := mi_X6_go) (n := 0) (As := []) (t_X6_go C _ e7) c7 up_X7_20_5 (by decide +kernel) ⟨Nat.le_of_ble_eq_true rfl, Nat.le_of_ble_eq_true rfl⟩ q522 rfl (Nat.le_of_ble_eq_true rfl) dX7_freshGood_40 ?_
  refine x_iload_n 1 rfl dX7_freshGood_43 ?_
  obtain rfl := Option.some.inj H
  exact x_iretT hE rfl rfl dX7_freshGood_44
def f_X7_freshGood_b34 (r0 : Nat) (x2 : Int32) (s0 : Nat) (h : mH) : Option ((Int32 ⊕ Nat) × mH) := f_X7_freshGood_b35 r0 x2 s0 (0 : Int32) h
theorem t_X7_freshGood_b34 {G : xG} {C : xC} {o : (Int32 ⊕ Nat) × mH} (hE : xEndT G C [] (xoI "StrangerMarket$Fault" o.1) o.2) (r0 : Nat) (x2 : Int32) (s0 : Nat) (h : mH) (H : f_X7_freshGood_b34 r0 x2 s0 h = some o) : X G C mi_X7_freshGood 34 [(0, .ref r0), (2, .int x2)] [.ref s0] h := by
  unfold f_X7_freshGood_b34 at H
  refine x_iconst (0 : Int32) dX7_freshGood_34 ic_0 ?_
  exact t_X7_freshGood_b35 hE _ _ _ _ _ H
def f_X7_freshGood (r0 : Nat) (r1 : Nat) (h : mH) : Option ((Int32 ⊕ Nat) × mH) := (gFr [5] 9 h r0).bind fun v1 => (gFr [1] 5 h v1).bind fun v2 => if gC h r0 ∈ [5] then bT (f_X6_hold r0 v2 h) fun v3 h3 => if gC h3 r1 = 10 then bR (f_X10_sells r1 v3 h3) fun a4 g4 => if a4 = 0 then (gFr [10] 6 g4 r1).bind fun v8 => (aI .int g4 v8 v3).bind fun v9 => if v9 = 0 then f_X7_freshGood_b35 r0 v3 r0 (1 : Int32) g4 else f_X7_freshGood_b34 r0 v3 r0 g4 else f_X7_freshGood_b34 r0 v3 r0 g4 else none else none
theorem t_X7_freshGood {G : xG} (C0 : xC) {l : Launch} {r0 : Nat} {r1 : Nat} (h : mH) {o : (Int32 ⊕ Nat) × mH} (H : f_X7_freshGood r0 r1 h = some o) : XT G l mi_X7_freshGood [.ref r0, .ref r1] h (xoI "StrangerMarket$Fault" o.1) o.2 := by
  refine XT.of C0 (by decide) (Nat.le_of_ble_eq_true rfl) (fun C _ _ _ hE => ?_)
  show X G C mi_X7_freshGood 0 [(0, .ref r0), (1, .ref r1)] [] h
  unfold f_X7_freshGood at H
  refine x_aload_n 0 rfl dX7_freshGood_0 ?_
  refine x_aload_n 0 rfl dX7_freshGood_1 ?_
  obtain ⟨v1, e1, H⟩ := ob H
  refine x_getf fg_X7_14 (gFr_spec e1) dX7_freshGood_2 ?_
  obtain ⟨v2, e2, H⟩ := ob H
  refine x_getf fg_X7_109 (gFr_spec e2) dX7_freshGood_5 ?_
  obtain ⟨c3, H⟩ := oit H
  rcases obT H with ⟨a3, h3, e3, rfl⟩ | ⟨v3, h3, e3, H⟩
  · exact x_goX (t_X6_hold C _ e3) (x_rU (M' := mi_X6_hold) (n := 1) (As := [.ref v2]) (t_X6_hold C _ e3) c3 up_X7_144_5 (by decide +kernel) ⟨Nat.le_of_ble_eq_true rfl, Nat.le_of_ble_eq_true rfl⟩ q1053 rfl (Nat.le_of_ble_eq_true rfl) dX7_freshGood_8) hE
  refine x_goR (r := (some (.int v3))) (t_X6_hold C _ e3) (x_rU (M' := mi_X6_hold) (n := 1) (As := [.ref v2]) (t_X6_hold C _ e3) c3 up_X7_144_5 (by decide +kernel) ⟨Nat.le_of_ble_eq_true rfl, Nat.le_of_ble_eq_true rfl⟩ q1053 rfl (Nat.le_of_ble_eq_true rfl) dX7_freshGood_8) ?_
  refine x_istore_n [1, 2, 0] dX7_freshGood_11 (by decide) rfl ?_
  refine x_aload_n 0 rfl dX7_freshGood_12 ?_
  refine x_aload_n 1 rfl dX7_freshGood_13 ?_
  refine x_iload_n 2 rfl dX7_freshGood_14 ?_
  obtain ⟨c4, H⟩ := oit H
  obtain ⟨a4, g4, e4, H⟩ := obR H
  refine x_callV (M' := mi_X10_sells) (n := 1) (As := [.int v3]) (t_X10_sells C _ e4) c4 rfl rfl md_X10_sells ⟨Nat.le_of_ble_eq_true rfl, Nat.le_of_ble_eq_true rfl⟩ q1065 q1066 q1067 q145 q1068 rfl (Nat.le_of_ble_eq_true rfl) dX7_freshGood_15 ?_
  refine x_if_ne 34 dX7_freshGood_18 (by decide) (fun c5 => ?_) (fun c5 => ?_)
  · rw [if_neg c5] at H
    refine X.sub [0, 2] rfl ?_
    exact t_X7_freshGood_b34 hE _ _ _ _ H
  · rw [if_pos c5] at H
    refine x_aload_n 1 rfl dX7_freshGood_21 ?_
    obtain ⟨v8, e8, H⟩ := ob H
    refine x_getf fg_X7_150 (gFr_spec e8) dX7_freshGood_22 ?_
    refine x_iload_n 2 rfl dX7_freshGood_25 ?_
    obtain ⟨v9, e9, H⟩ := ob H
    refine x_iald e9 dX7_freshGood_26 ?_
    refine x_if_ne 34 dX7_freshGood_27 (by decide) (fun c10 => ?_) (fun c10 => ?_)
    · rw [if_neg c10] at H
      refine X.sub [0, 2] rfl ?_
      exact t_X7_freshGood_b34 hE _ _ _ _ H
    · rw [if_pos c10] at H
      refine x_iconst (1 : Int32) dX7_freshGood_30 ic_1 ?_
      refine x_goto (tgt := 35) dX7_freshGood_31 (by decide) ?_
      refine X.sub [0, 2] rfl ?_
      exact t_X7_freshGood_b35 hE _ _ _ _ _ H
abbrev mi_X7_sells : xM := (cX7_sells, yX7_sells, 3, none, 13)
theorem md_X7_sells : xMD mi_X7_sells 0 := ⟨by decide, by decide, by decide +kernel⟩
def f_X7_sells (r0 : Nat) (h : mH) : Option ((Unit ⊕ Nat) × mH) := if gC h r0 ∈ [5] then bR (f_X6_go r0  h) fun a1 g1 => (gFr [5] 9 g1 r0).bind fun v2 => (gFr [1] 4 g1 v2).bind fun v3 => (gFr [5] 9 g1 r0).bind fun v4 => (gFr [1] 4 g1 v4).bind fun v5 => if gC g1 r0 ∈ [5] then bT (f_X6_one r0 v5 g1) fun v6 h6 => if gC h6 v3 = 21 then bR (f_J2_get v3 v6 h6) fun a7 g7 => if a7 = 0 ∨ gC g7 a7 ∈ [10] then if gC g7 r0 = 5 then bT (f_X7_freshGood r0 a7 g7) fun v9 h9 => (gFr [10] 4 h9 a7).bind fun v10 => if gC h9 r0 ∈ [5] then bT (f_X6_number r0 (1 : Int32) (9 : Int32) h9) fun v11 h11 => (sI .int h11 v10 v9 v11).bind fun h12 => (gFr [10] 5 h12 a7).bind fun v13 => if gC h12 r0 ∈ [5] then bT (f_X6_number r0 (0 : Int32) (20 : Int32) h12) fun v14 h14 => (sI .int h14 v13 v9 v14).bind fun h15 => some (.inl (), h15) else none else none else none else none else none else none else none
theorem t_X7_sells {G : xG} (C0 : xC) {l : Launch} {r0 : Nat} (h : mH) {o : (Unit ⊕ Nat) × mH} (H : f_X7_sells r0 h = some o) : XT G l mi_X7_sells [.ref r0] h (xoU "StrangerMarket$Fault" o.1) o.2 := by
  refine XT.of C0 (by decide) (Nat.le_of_ble_eq_true rfl) (fun C _ _ _ hE => ?_)
  show X G C mi_X7_sells 0 [(0, .ref r0)] [] h
  unfold f_X7_sells at H
  refine x_aload_n 0 rfl dX7_sells_0 ?_
  obtain ⟨c1, H⟩ := oit H
  obtain ⟨a1, g1, e1, H⟩ := obR H
  refine x_callU (M' := mi_X6_go) (n := 0) (As := []) (t_X6_go C _ e1) c1 up_X7_20_5 (by decide +kernel) ⟨Nat.le_of_ble_eq_true rfl, Nat.le_of_ble_eq_true rfl⟩ q522 rfl (Nat.le_of_ble_eq_true rfl) dX7_sells_1 ?_
  refine x_aload_n 0 rfl dX7_sells_4 ?_
  obtain ⟨v2, e2, H⟩ := ob H
  refine x_getf fg_X7_14 (gFr_spec e2) dX7_sells_5 ?_
  obtain ⟨v3, e3, H⟩ := ob H
  refine x_getf fg_X7_101 (gFr_spec e3) dX7_sells_8 ?_
  refine x_aload_n 0 rfl dX7_sells_11 ?_
  refine x_aload_n 0 rfl dX7_sells_12 ?_
  obtain ⟨v4, e4, H⟩ := ob H
  refine x_getf fg_X7_14 (gFr_spec e4) dX7_sells_13 ?_
  obtain ⟨v5, e5, H⟩ := ob H
  refine x_getf fg_X7_101 (gFr_spec e5) dX7_sells_16 ?_
  obtain ⟨c6, H⟩ := oit H
  rcases obT H with ⟨a6, h6, e6, rfl⟩ | ⟨v6, h6, e6, H⟩
  · exact x_goX (t_X6_one C _ e6) (x_rU (M' := mi_X6_one) (n := 1) (As := [.ref v5]) (t_X6_one C _ e6) c6 up_X7_154_5 (by decide +kernel) ⟨Nat.le_of_ble_eq_true rfl, Nat.le_of_ble_eq_true rfl⟩ q1046 rfl (Nat.le_of_ble_eq_true rfl) dX7_sells_19) hE
  refine x_goR (r := (some (.int v6))) (t_X6_one C _ e6) (x_rU (M' := mi_X6_one) (n := 1) (As := [.ref v5]) (t_X6_one C _ e6) c6 up_X7_154_5 (by decide +kernel) ⟨Nat.le_of_ble_eq_true rfl, Nat.le_of_ble_eq_true rfl⟩ q1046 rfl (Nat.le_of_ble_eq_true rfl) dX7_sells_19) ?_
  obtain ⟨c7, H⟩ := oit H
  obtain ⟨a7, g7, e7, H⟩ := obR H
  refine x_callV (M' := mi_J2_get) (n := 1) (As := [.int v6]) (t_J2_get C _ e7) c7 rfl rfl md_J2_get ⟨Nat.le_of_ble_eq_true rfl, Nat.le_of_ble_eq_true rfl⟩ q1056 q325 q326 q124 q327 rfl (Nat.le_of_ble_eq_true rfl) dX7_sells_22 ?_
  obtain ⟨c8, H⟩ := oit H
  refine x_cast cs_StrangerMarket_Person q911 c8 dX7_sells_25 ?_
  refine x_astore_n [1, 0] dX7_sells_28 (by decide) rfl ?_
  refine x_aload_n 0 rfl dX7_sells_29 ?_
  refine x_aload_n 1 rfl dX7_sells_30 ?_
  obtain ⟨c9, H⟩ := oit H
  rcases obT H with ⟨a9, h9, e9, rfl⟩ | ⟨v9, h9, e9, H⟩
  · exact x_goX (t_X7_freshGood C _ e9) (x_rV (M' := mi_X7_freshGood) (n := 1) (As := [.ref a7]) (t_X7_freshGood C _ e9) c9 rfl rfl md_X7_freshGood ⟨Nat.le_of_ble_eq_true rfl, Nat.le_of_ble_eq_true rfl⟩ q1057 q1059 qs14 q133 q1060 rfl (Nat.le_of_ble_eq_true rfl) dX7_sells_31) hE
  refine x_goR (r := (some (.int v9))) (t_X7_freshGood C _ e9) (x_rV (M' := mi_X7_freshGood) (n := 1) (As := [.ref a7]) (t_X7_freshGood C _ e9) c9 rfl rfl md_X7_freshGood ⟨Nat.le_of_ble_eq_true rfl, Nat.le_of_ble_eq_true rfl⟩ q1057 q1059 qs14 q133 q1060 rfl (Nat.le_of_ble_eq_true rfl) dX7_sells_31) ?_
  refine x_istore_n [1, 2, 0] dX7_sells_34 (by decide) rfl ?_
  refine x_aload_n 1 rfl dX7_sells_35 ?_
  obtain ⟨v10, e10, H⟩ := ob H
  refine x_getf fg_X7_165 (gFr_spec e10) dX7_sells_36 ?_
  refine x_iload_n 2 rfl dX7_sells_39 ?_
  refine x_aload_n 0 rfl dX7_sells_40 ?_
  refine x_iconst (1 : Int32) dX7_sells_41 ic_1 ?_
  refine x_bipush (9 : Int32) dX7_sells_42 bi_9 ?_
  obtain ⟨c11, H⟩ := oit H
  rcases obT H with ⟨a11, h11, e11, rfl⟩ | ⟨v11, h11, e11, H⟩
  · exact x_goX (t_X6_number C _ e11) (x_rU (M' := mi_X6_number) (n := 2) (As := [.int (1 : Int32), .int (9 : Int32)]) (t_X6_number C _ e11) c11 up_X7_90_5 (by decide +kernel) ⟨Nat.le_of_ble_eq_true rfl, Nat.le_of_ble_eq_true rfl⟩ q918 rfl (Nat.le_of_ble_eq_true rfl) dX7_sells_44) hE
  refine x_goR (r := (some (.int v11))) (t_X6_number C _ e11) (x_rU (M' := mi_X6_number) (n := 2) (As := [.int (1 : Int32), .int (9 : Int32)]) (t_X6_number C _ e11) c11 up_X7_90_5 (by decide +kernel) ⟨Nat.le_of_ble_eq_true rfl, Nat.le_of_ble_eq_true rfl⟩ q918 rfl (Nat.le_of_ble_eq_true rfl) dX7_sells_44) ?_
  obtain ⟨h12, e12, H⟩ := ob H
  refine x_iast e12 dX7_sells_47 ?_
  refine x_aload_n 1 rfl dX7_sells_48 ?_
  obtain ⟨v13, e13, H⟩ := ob H
  refine x_getf fg_X7_168 (gFr_spec e13) dX7_sells_49 ?_
  refine x_iload_n 2 rfl dX7_sells_52 ?_
  refine x_aload_n 0 rfl dX7_sells_53 ?_
  refine x_iconst (0 : Int32) dX7_sells_54 ic_0 ?_
  refine x_bipush (20 : Int32) dX7_sells_55 bi_20 ?_
  obtain ⟨c14, H⟩ := oit H
  rcases obT H with ⟨a14, h14, e14, rfl⟩ | ⟨v14, h14, e14, H⟩
  · exact x_goX (t_X6_number C _ e14) (x_rU (M' := mi_X6_number) (n := 2) (As := [.int (0 : Int32), .int (20 : Int32)]) (t_X6_number C _ e14) c14 up_X7_90_5 (by decide +kernel) ⟨Nat.le_of_ble_eq_true rfl, Nat.le_of_ble_eq_true rfl⟩ q918 rfl (Nat.le_of_ble_eq_true rfl) dX7_sells_57) hE
  refine x_goR (r := (some (.int v14))) (t_X6_number C _ e14) (x_rU (M' := mi_X6_number) (n := 2) (As := [.int (0 : Int32), .int (20 : Int32)]) (t_X6_number C _ e14) c14 up_X7_90_5 (by decide +kernel) ⟨Nat.le_of_ble_eq_true rfl, Nat.le_of_ble_eq_true rfl⟩ q918 rfl (Nat.le_of_ble_eq_true rfl) dX7_sells_57) ?_
  obtain ⟨h15, e15, H⟩ := ob H
  refine x_iast e15 dX7_sells_60 ?_
  obtain rfl := Option.some.inj H
  exact x_vretT hE rfl dX7_sells_61
abbrev mi_X7_wants : xM := (cX7_wants, yX7_wants, 3, none, 13)
theorem md_X7_wants : xMD mi_X7_wants 0 := ⟨by decide, by decide, by decide +kernel⟩
def f_X7_wants (r0 : Nat) (h : mH) : Option ((Unit ⊕ Nat) × mH) := if gC h r0 ∈ [5] then bR (f_X6_go r0  h) fun a1 g1 => (gFr [5] 9 g1 r0).bind fun v2 => (gFr [1] 4 g1 v2).bind fun v3 => (gFr [5] 9 g1 r0).bind fun v4 => (gFr [1] 4 g1 v4).bind fun v5 => if gC g1 r0 ∈ [5] then bT (f_X6_one r0 v5 g1) fun v6 h6 => if gC h6 v3 = 21 then bR (f_J2_get v3 v6 h6) fun a7 g7 => if a7 = 0 ∨ gC g7 a7 ∈ [10] then if gC g7 r0 = 5 then bT (f_X7_freshGood r0 a7 g7) fun v9 h9 => (gFr [10] 6 h9 a7).bind fun v10 => if gC h9 r0 ∈ [5] then bT (f_X6_number r0 (1 : Int32) (9 : Int32) h9) fun v11 h11 => (sI .int h11 v10 v9 v11).bind fun h12 => some (.inl (), h12) else none else none else none else none else none else none
theorem t_X7_wants {G : xG} (C0 : xC) {l : Launch} {r0 : Nat} (h : mH) {o : (Unit ⊕ Nat) × mH} (H : f_X7_wants r0 h = some o) : XT G l mi_X7_wants [.ref r0] h (xoU "StrangerMarket$Fault" o.1) o.2 := by
  refine XT.of C0 (by decide) (Nat.le_of_ble_eq_true rfl) (fun C _ _ _ hE => ?_)
  show X G C mi_X7_wants 0 [(0, .ref r0)] [] h
  unfold f_X7_wants at H
  refine x_aload_n 0 rfl dX7_wants_0 ?_
  obtain ⟨c1, H⟩ := oit H
  obtain ⟨a1, g1, e1, H⟩ := obR H
  refine x_callU (M' := mi_X6_go) (n := 0) (As := []) (t_X6_go C _ e1) c1 up_X7_20_5 (by decide +kernel) ⟨Nat.le_of_ble_eq_true rfl, Nat.le_of_ble_eq_true rfl⟩ q522 rfl (Nat.le_of_ble_eq_true rfl) dX7_wants_1 ?_
  refine x_aload_n 0 rfl dX7_wants_4 ?_
  obtain ⟨v2, e2, H⟩ := ob H
  refine x_getf fg_X7_14 (gFr_spec e2) dX7_wants_5 ?_
  obtain ⟨v3, e3, H⟩ := ob H
  refine x_getf fg_X7_101 (gFr_spec e3) dX7_wants_8 ?_
  refine x_aload_n 0 rfl dX7_wants_11 ?_
  refine x_aload_n 0 rfl dX7_wants_12 ?_
  obtain ⟨v4, e4, H⟩ := ob H
  refine x_getf fg_X7_14 (gFr_spec e4) dX7_wants_13 ?_
  obtain ⟨v5, e5, H⟩ := ob H
  refine x_getf fg_X7_101 (gFr_spec e5) dX7_wants_16 ?_
  obtain ⟨c6, H⟩ := oit H
  rcases obT H with ⟨a6, h6, e6, rfl⟩ | ⟨v6, h6, e6, H⟩
  · exact x_goX (t_X6_one C _ e6) (x_rU (M' := mi_X6_one) (n := 1) (As := [.ref v5]) (t_X6_one C _ e6) c6 up_X7_154_5 (by decide +kernel) ⟨Nat.le_of_ble_eq_true rfl, Nat.le_of_ble_eq_true rfl⟩ q1046 rfl (Nat.le_of_ble_eq_true rfl) dX7_wants_19) hE
  refine x_goR (r := (some (.int v6))) (t_X6_one C _ e6) (x_rU (M' := mi_X6_one) (n := 1) (As := [.ref v5]) (t_X6_one C _ e6) c6 up_X7_154_5 (by decide +kernel) ⟨Nat.le_of_ble_eq_true rfl, Nat.le_of_ble_eq_true rfl⟩ q1046 rfl (Nat.le_of_ble_eq_true rfl) dX7_wants_19) ?_
  obtain ⟨c7, H⟩ := oit H
  obtain ⟨a7, g7, e7, H⟩ := obR H
  refine x_callV (M' := mi_J2_get) (n := 1) (As := [.int v6]) (t_J2_get C _ e7) c7 rfl rfl md_J2_get ⟨Nat.le_of_ble_eq_true rfl, Nat.le_of_ble_eq_true rfl⟩ q1056 q325 q326 q124 q327 rfl (Nat.le_of_ble_eq_true rfl) dX7_wants_22 ?_
  obtain ⟨c8, H⟩ := oit H
  refine x_cast cs_StrangerMarket_Person q911 c8 dX7_wants_25 ?_
  refine x_astore_n [1, 0] dX7_wants_28 (by decide) rfl ?_
  refine x_aload_n 0 rfl dX7_wants_29 ?_
  refine x_aload_n 1 rfl dX7_wants_30 ?_
  obtain ⟨c9, H⟩ := oit H
  rcases obT H with ⟨a9, h9, e9, rfl⟩ | ⟨v9, h9, e9, H⟩
  · exact x_goX (t_X7_freshGood C _ e9) (x_rV (M' := mi_X7_freshGood) (n := 1) (As := [.ref a7]) (t_X7_freshGood C _ e9) c9 rfl rfl md_X7_freshGood ⟨Nat.le_of_ble_eq_true rfl, Nat.le_of_ble_eq_true rfl⟩ q1057 q1059 qs14 q133 q1060 rfl (Nat.le_of_ble_eq_true rfl) dX7_wants_31) hE
  refine x_goR (r := (some (.int v9))) (t_X7_freshGood C _ e9) (x_rV (M' := mi_X7_freshGood) (n := 1) (As := [.ref a7]) (t_X7_freshGood C _ e9) c9 rfl rfl md_X7_freshGood ⟨Nat.le_of_ble_eq_true rfl, Nat.le_of_ble_eq_true rfl⟩ q1057 q1059 qs14 q133 q1060 rfl (Nat.le_of_ble_eq_true rfl) dX7_wants_31) ?_
  refine x_istore_n [1, 2, 0] dX7_wants_34 (by decide) rfl ?_
  refine x_aload_n 1 rfl dX7_wants_35 ?_
  obtain ⟨v10, e10, H⟩ := ob H
  refine x_getf fg_X7_150 (gFr_spec e10) dX7_wants_36 ?_
  refine x_iload_n 2 rfl dX7_wants_39 ?_
  refine x_aload_n 0 rfl dX7_wants_40 ?_
  refine x_iconst (1 : Int32) dX7_wants_41 ic_1 ?_
  refine x_bipush (9 : Int32) dX7_wants_42 bi_9 ?_
  obtain ⟨c11, H⟩ := oit H
  rcases obT H with ⟨a11, h11, e11, rfl⟩ | ⟨v11, h11, e11, H⟩
  · exact x_goX (t_X6_number C _ e11) (x_rU (M' := mi_X6_number) (n := 2) (As := [.int (1 : Int32), .int (9 : Int32)]) (t_X6_number C _ e11) c11 up_X7_90_5 (by decide +kernel) ⟨Nat.le_of_ble_eq_true rfl, Nat.le_of_ble_eq_true rfl⟩ q918 rfl (Nat.le_of_ble_eq_true rfl) dX7_wants_44) hE
  refine x_goR (r := (some (.int v11))) (t_X6_number C _ e11) (x_rU (M' := mi_X6_number) (n := 2) (As := [.int (1 : Int32), .int (9 : Int32)]) (t_X6_number C _ e11) c11 up_X7_90_5 (by decide +kernel) ⟨Nat.le_of_ble_eq_true rfl, Nat.le_of_ble_eq_true rfl⟩ q918 rfl (Nat.le_of_ble_eq_true rfl) dX7_wants_44) ?_
  obtain ⟨h12, e12, H⟩ := ob H
  refine x_iast e12 dX7_wants_47 ?_
  obtain rfl := Option.some.inj H
  exact x_vretT hE rfl dX7_wants_48
abbrev mi_X7_line : xM := (cX7_line, yX7_line, 1, none, 14)
theorem md_X7_line : xMD mi_X7_line 0 := ⟨by decide, by decide, by decide +kernel⟩
def f_X7_line (r0 : Nat) (h : mH) : Option ((Unit ⊕ Nat) × mH) := if gC h r0 ∈ [5] then bR (f_X6_is r0 10 h) fun a1 g1 => if a1 = 0 then if gC g1 r0 ∈ [5] then bR (f_X6_is r0 13 g1) fun a3 g3 => if a3 = 0 then if gC g3 r0 ∈ [5] then bR (f_X6_is r0 14 g3) fun a5 g5 => if a5 = 0 then if gC g5 r0 ∈ [5] then bR (f_X6_is r0 15 g5) fun a7 g7 => if a7 = 0 then if gC g7 r0 ∈ [5] then bR (f_X6_is r0 16 g7) fun a9 g9 => if a9 = 0 then if gC g9 r0 ∈ [5] then bR (f_X6_is r0 17 g9) fun a11 g11 => if a11 = 0 then if gC g11 r0 ∈ [5] then bR (f_X6_is r0 18 g11) fun a13 g13 => if a13 = 0 then if gC g13 r0 ∈ [5] then bR (f_X6_is r0 19 g13) fun a15 g15 => if a15 = 0 then if gC g15 r0 = 5 then bT (f_X7_bell r0  g15) fun v17 h17 => some (.inl (), h17) else none else (gFr [5] 9 g15 r0).bind fun v18 => if gC g15 r0 = 5 then bT (f_X7_once r0 (1 : Int32) (0 : Int32) (9 : Int32) g15) fun v19 h19 => (pF [1] 2 (.int v19) h19 v18).bind fun h20 => some (.inl (), h20) else none else none else (gFr [5] 9 g13 r0).bind fun v21 => if gC g13 r0 = 5 then bT (f_X7_once r0 (0 : Int32) (1 : Int32) (9 : Int32) g13) fun v22 h22 => (pF [1] 1 (.int v22) h22 v21).bind fun h23 => some (.inl (), h23) else none else none else if gC g11 r0 = 5 then bT (f_X7_pair r0 (0 : Int32) g11) fun v24 h24 => some (.inl (), h24) else none else none else if gC g9 r0 = 5 then bT (f_X7_pair r0 (1 : Int32) g9) fun v25 h25 => some (.inl (), h25) else none else none else if gC g7 r0 = 5 then bT (f_X7_wants r0  g7) fun v26 h26 => some (.inl (), h26) else none else none else if gC g5 r0 = 5 then bT (f_X7_sells r0  g5) fun v27 h27 => some (.inl (), h27) else none else none else if gC g3 r0 = 5 then bT (f_X7_good r0  g3) fun v28 h28 => some (.inl (), h28) else none else none else if gC g1 r0 = 5 then bT (f_X7_person r0  g1) fun v29 h29 => some (.inl (), h29) else none else none
theorem t_X7_line {G : xG} (C0 : xC) {l : Launch} {r0 : Nat} (h : mH) {o : (Unit ⊕ Nat) × mH} (H : f_X7_line r0 h = some o) : XT G l mi_X7_line [.ref r0] h (xoU "StrangerMarket$Fault" o.1) o.2 := by
  refine XT.of C0 (by decide) (Nat.le_of_ble_eq_true rfl) (fun C _ _ _ hE => ?_)
  show X G C mi_X7_line 0 [(0, .ref r0)] [] h
  unfold f_X7_line at H
  refine x_aload_n 0 rfl dX7_line_0 ?_
  refine x_ldcS (tx := "person") (a := 10) (List.mem_of_getElem? (i := 2) rfl) (by decide) (by decide) dX7_line_1 ?_
  obtain ⟨c1, H⟩ := oit H
  obtain ⟨a1, g1, e1, H⟩ := obR H
  refine x_callU (M' := mi_X6_is) (n := 1) (As := [.ref 10]) (t_X6_is C _ e1) c1 up_X7_38_5 (by decide +kernel) ⟨Nat.le_of_ble_eq_true rfl, Nat.le_of_ble_eq_true rfl⟩ q726 rfl (Nat.le_of_ble_eq_true rfl) dX7_line_3 ?_
  refine x_if_eq 16 dX7_line_6 (by decide) (fun c2 => ?_) (fun c2 => ?_)
  · rw [if_pos c2] at H
    refine x_aload_n 0 rfl dX7_line_16 ?_
    refine x_ldcS (tx := "good") (a := 13) (List.mem_of_getElem? (i := 5) rfl) (by decide) (by decide) dX7_line_17 ?_
    obtain ⟨c3, H⟩ := oit H
    obtain ⟨a3, g3, e3, H⟩ := obR H
    refine x_callU (M' := mi_X6_is) (n := 1) (As := [.ref 13]) (t_X6_is C _ e3) c3 up_X7_38_5 (by decide +kernel) ⟨Nat.le_of_ble_eq_true rfl, Nat.le_of_ble_eq_true rfl⟩ q726 rfl (Nat.le_of_ble_eq_true rfl) dX7_line_19 ?_
    refine x_if_eq 32 dX7_line_22 (by decide) (fun c4 => ?_) (fun c4 => ?_)
    · rw [if_pos c4] at H
      refine x_aload_n 0 rfl dX7_line_32 ?_
      refine x_ldcS (tx := "sells") (a := 14) (List.mem_of_getElem? (i := 6) rfl) (by decide) (by decide) dX7_line_33 ?_
      obtain ⟨c5, H⟩ := oit H
      obtain ⟨a5, g5, e5, H⟩ := obR H
      refine x_callU (M' := mi_X6_is) (n := 1) (As := [.ref 14]) (t_X6_is C _ e5) c5 up_X7_38_5 (by decide +kernel) ⟨Nat.le_of_ble_eq_true rfl, Nat.le_of_ble_eq_true rfl⟩ q726 rfl (Nat.le_of_ble_eq_true rfl) dX7_line_35 ?_
      refine x_if_eq 48 dX7_line_38 (by decide) (fun c6 => ?_) (fun c6 => ?_)
      · rw [if_pos c6] at H
        refine x_aload_n 0 rfl dX7_line_48 ?_
        refine x_ldcS (tx := "wants") (a := 15) (List.mem_of_getElem? (i := 7) rfl) (by decide) (by decide) dX7_line_49 ?_
        obtain ⟨c7, H⟩ := oit H
        obtain ⟨a7, g7, e7, H⟩ := obR H
        refine x_callU (M' := mi_X6_is) (n := 1) (As := [.ref 15]) (t_X6_is C _ e7) c7 up_X7_38_5 (by decide +kernel) ⟨Nat.le_of_ble_eq_true rfl, Nat.le_of_ble_eq_true rfl⟩ q726 rfl (Nat.le_of_ble_eq_true rfl) dX7_line_51 ?_
        refine x_if_eq 64 dX7_line_54 (by decide) (fun c8 => ?_) (fun c8 => ?_)
        · rw [if_pos c8] at H
          refine x_aload_n 0 rfl dX7_line_64 ?_
          refine x_ldcS (tx := "knows") (a := 16) (List.mem_of_getElem? (i := 8) rfl) (by decide) (by decide) dX7_line_65 ?_
          obtain ⟨c9, H⟩ := oit H
          obtain ⟨a9, g9, e9, H⟩ := obR H
          refine x_callU (M' := mi_X6_is) (n := 1) (As := [.ref 16]) (t_X6_is C _ e9) c9 up_X7_38_5 (by decide +kernel) ⟨Nat.le_of_ble_eq_true rfl, Nat.le_of_ble_eq_true rfl⟩ q726 rfl (Nat.le_of_ble_eq_true rfl) dX7_line_67 ?_
          refine x_if_eq 81 dX7_line_70 (by decide) (fun c10 => ?_) (fun c10 => ?_)
          · rw [if_pos c10] at H
            refine x_aload_n 0 rfl dX7_line_81 ?_
            refine x_ldcS (tx := "foes") (a := 17) (List.mem_of_getElem? (i := 9) rfl) (by decide) (by decide) dX7_line_82 ?_
            obtain ⟨c11, H⟩ := oit H
            obtain ⟨a11, g11, e11, H⟩ := obR H
            refine x_callU (M' := mi_X6_is) (n := 1) (As := [.ref 17]) (t_X6_is C _ e11) c11 up_X7_38_5 (by decide +kernel) ⟨Nat.le_of_ble_eq_true rfl, Nat.le_of_ble_eq_true rfl⟩ q726 rfl (Nat.le_of_ble_eq_true rfl) dX7_line_84 ?_
            refine x_if_eq 98 dX7_line_87 (by decide) (fun c12 => ?_) (fun c12 => ?_)
            · rw [if_pos c12] at H
              refine x_aload_n 0 rfl dX7_line_98 ?_
              refine x_ldcS (tx := "deals") (a := 18) (List.mem_of_getElem? (i := 10) rfl) (by decide) (by decide) dX7_line_99 ?_
              obtain ⟨c13, H⟩ := oit H
              obtain ⟨a13, g13, e13, H⟩ := obR H
              refine x_callU (M' := mi_X6_is) (n := 1) (As := [.ref 18]) (t_X6_is C _ e13) c13 up_X7_38_5 (by decide +kernel) ⟨Nat.le_of_ble_eq_true rfl, Nat.le_of_ble_eq_true rfl⟩ q726 rfl (Nat.le_of_ble_eq_true rfl) dX7_line_101 ?_
              refine x_if_eq 125 dX7_line_104 (by decide) (fun c14 => ?_) (fun c14 => ?_)
              · rw [if_pos c14] at H
                refine x_aload_n 0 rfl dX7_line_125 ?_
                refine x_ldcS (tx := "veils") (a := 19) (List.mem_of_getElem? (i := 11) rfl) (by decide) (by decide) dX7_line_126 ?_
                obtain ⟨c15, H⟩ := oit H
                obtain ⟨a15, g15, e15, H⟩ := obR H
                refine x_callU (M' := mi_X6_is) (n := 1) (As := [.ref 19]) (t_X6_is C _ e15) c15 up_X7_38_5 (by decide +kernel) ⟨Nat.le_of_ble_eq_true rfl, Nat.le_of_ble_eq_true rfl⟩ q726 rfl (Nat.le_of_ble_eq_true rfl) dX7_line_128 ?_
                refine x_if_eq 152 dX7_line_131 (by decide) (fun c16 => ?_) (fun c16 => ?_)
                · rw [if_pos c16] at H
                  refine x_aload_n 0 rfl dX7_line_152 ?_
                  obtain ⟨c17, H⟩ := oit H
                  rcases obT H with ⟨a17, h17, e17, rfl⟩ | ⟨v17, h17, e17, H⟩
                  · exact x_goX (t_X7_bell C _ e17) (x_rV (M' := mi_X7_bell) (n := 0) (As := []) (t_X7_bell C _ e17) c17 rfl rfl md_X7_bell ⟨Nat.le_of_ble_eq_true rfl, Nat.le_of_ble_eq_true rfl⟩ q1089 q1091 qs18 q133 q1092 rfl (Nat.le_of_ble_eq_true rfl) dX7_line_153) hE
                  refine x_goR (r := none) (t_X7_bell C _ e17) (x_rV (M' := mi_X7_bell) (n := 0) (As := []) (t_X7_bell C _ e17) c17 rfl rfl md_X7_bell ⟨Nat.le_of_ble_eq_true rfl, Nat.le_of_ble_eq_true rfl⟩ q1089 q1091 qs18 q133 q1092 rfl (Nat.le_of_ble_eq_true rfl) dX7_line_153) ?_
                  obtain rfl := Option.some.inj H
                  exact x_vretT hE rfl dX7_line_156
                · rw [if_neg c16] at H
                  refine x_aload_n 0 rfl dX7_line_134 ?_
                  obtain ⟨v18, e18, H⟩ := ob H
                  refine x_getf fg_X7_14 (gFr_spec e18) dX7_line_135 ?_
                  refine x_aload_n 0 rfl dX7_line_138 ?_
                  refine x_iconst (1 : Int32) dX7_line_139 ic_1 ?_
                  refine x_iconst (0 : Int32) dX7_line_140 ic_0 ?_
                  refine x_bipush (9 : Int32) dX7_line_141 bi_9 ?_
                  obtain ⟨c19, H⟩ := oit H
                  rcases obT H with ⟨a19, h19, e19, rfl⟩ | ⟨v19, h19, e19, H⟩
                  · exact x_goX (t_X7_once C _ e19) (x_rV (M' := mi_X7_once) (n := 3) (As := [.int (1 : Int32), .int (0 : Int32), .int (9 : Int32)]) (t_X7_once C _ e19) c19 rfl rfl md_X7_once ⟨Nat.le_of_ble_eq_true rfl, Nat.le_of_ble_eq_true rfl⟩ q1084 q1086 qs17 q133 q1087 rfl (Nat.le_of_ble_eq_true rfl) dX7_line_143) hE
                  refine x_goR (r := (some (.int v19))) (t_X7_once C _ e19) (x_rV (M' := mi_X7_once) (n := 3) (As := [.int (1 : Int32), .int (0 : Int32), .int (9 : Int32)]) (t_X7_once C _ e19) c19 rfl rfl md_X7_once ⟨Nat.le_of_ble_eq_true rfl, Nat.le_of_ble_eq_true rfl⟩ q1084 q1086 qs17 q133 q1087 rfl (Nat.le_of_ble_eq_true rfl) dX7_line_143) ?_
                  obtain ⟨h20, e20, H⟩ := ob H
                  refine x_putf (fp_X7_74 _) rfl rfl e20 dX7_line_146 ?_
                  refine x_goto (tgt := 156) dX7_line_149 (by decide) ?_
                  obtain rfl := Option.some.inj H
                  exact x_vretT hE rfl dX7_line_156
              · rw [if_neg c14] at H
                refine x_aload_n 0 rfl dX7_line_107 ?_
                obtain ⟨v21, e21, H⟩ := ob H
                refine x_getf fg_X7_14 (gFr_spec e21) dX7_line_108 ?_
                refine x_aload_n 0 rfl dX7_line_111 ?_
                refine x_iconst (0 : Int32) dX7_line_112 ic_0 ?_
                refine x_iconst (1 : Int32) dX7_line_113 ic_1 ?_
                refine x_bipush (9 : Int32) dX7_line_114 bi_9 ?_
                obtain ⟨c22, H⟩ := oit H
                rcases obT H with ⟨a22, h22, e22, rfl⟩ | ⟨v22, h22, e22, H⟩
                · exact x_goX (t_X7_once C _ e22) (x_rV (M' := mi_X7_once) (n := 3) (As := [.int (0 : Int32), .int (1 : Int32), .int (9 : Int32)]) (t_X7_once C _ e22) c22 rfl rfl md_X7_once ⟨Nat.le_of_ble_eq_true rfl, Nat.le_of_ble_eq_true rfl⟩ q1084 q1086 qs17 q133 q1087 rfl (Nat.le_of_ble_eq_true rfl) dX7_line_116) hE
                refine x_goR (r := (some (.int v22))) (t_X7_once C _ e22) (x_rV (M' := mi_X7_once) (n := 3) (As := [.int (0 : Int32), .int (1 : Int32), .int (9 : Int32)]) (t_X7_once C _ e22) c22 rfl rfl md_X7_once ⟨Nat.le_of_ble_eq_true rfl, Nat.le_of_ble_eq_true rfl⟩ q1084 q1086 qs17 q133 q1087 rfl (Nat.le_of_ble_eq_true rfl) dX7_line_116) ?_
                obtain ⟨h23, e23, H⟩ := ob H
                refine x_putf (fp_X7_70 _) rfl rfl e23 dX7_line_119 ?_
                refine x_goto (tgt := 156) dX7_line_122 (by decide) ?_
                obtain rfl := Option.some.inj H
                exact x_vretT hE rfl dX7_line_156
            · rw [if_neg c12] at H
              refine x_aload_n 0 rfl dX7_line_90 ?_
              refine x_iconst (0 : Int32) dX7_line_91 ic_0 ?_
              obtain ⟨c24, H⟩ := oit H
              rcases obT H with ⟨a24, h24, e24, rfl⟩ | ⟨v24, h24, e24, H⟩
              · exact x_goX (t_X7_pair C _ e24) (x_rV (M' := mi_X7_pair) (n := 1) (As := [.int (0 : Int32)]) (t_X7_pair C _ e24) c24 rfl rfl md_X7_pair ⟨Nat.le_of_ble_eq_true rfl, Nat.le_of_ble_eq_true rfl⟩ q1075 q1077 qs16 q133 q1078 rfl (Nat.le_of_ble_eq_true rfl) dX7_line_92) hE
              refine x_goR (r := none) (t_X7_pair C _ e24) (x_rV (M' := mi_X7_pair) (n := 1) (As := [.int (0 : Int32)]) (t_X7_pair C _ e24) c24 rfl rfl md_X7_pair ⟨Nat.le_of_ble_eq_true rfl, Nat.le_of_ble_eq_true rfl⟩ q1075 q1077 qs16 q133 q1078 rfl (Nat.le_of_ble_eq_true rfl) dX7_line_92) ?_
              refine x_goto (tgt := 156) dX7_line_95 (by decide) ?_
              obtain rfl := Option.some.inj H
              exact x_vretT hE rfl dX7_line_156
          · rw [if_neg c10] at H
            refine x_aload_n 0 rfl dX7_line_73 ?_
            refine x_iconst (1 : Int32) dX7_line_74 ic_1 ?_
            obtain ⟨c25, H⟩ := oit H
            rcases obT H with ⟨a25, h25, e25, rfl⟩ | ⟨v25, h25, e25, H⟩
            · exact x_goX (t_X7_pair C _ e25) (x_rV (M' := mi_X7_pair) (n := 1) (As := [.int (1 : Int32)]) (t_X7_pair C _ e25) c25 rfl rfl md_X7_pair ⟨Nat.le_of_ble_eq_true rfl, Nat.le_of_ble_eq_true rfl⟩ q1075 q1077 qs16 q133 q1078 rfl (Nat.le_of_ble_eq_true rfl) dX7_line_75) hE
            refine x_goR (r := none) (t_X7_pair C _ e25) (x_rV (M' := mi_X7_pair) (n := 1) (As := [.int (1 : Int32)]) (t_X7_pair C _ e25) c25 rfl rfl md_X7_pair ⟨Nat.le_of_ble_eq_true rfl, Nat.le_of_ble_eq_true rfl⟩ q1075 q1077 qs16 q133 q1078 rfl (Nat.le_of_ble_eq_true rfl) dX7_line_75) ?_
            refine x_goto (tgt := 156) dX7_line_78 (by decide) ?_
            obtain rfl := Option.some.inj H
            exact x_vretT hE rfl dX7_line_156
        · rw [if_neg c8] at H
          refine x_aload_n 0 rfl dX7_line_57 ?_
          obtain ⟨c26, H⟩ := oit H
          rcases obT H with ⟨a26, h26, e26, rfl⟩ | ⟨v26, h26, e26, H⟩
          · exact x_goX (t_X7_wants C _ e26) (x_rV (M' := mi_X7_wants) (n := 0) (As := []) (t_X7_wants C _ e26) c26 rfl rfl md_X7_wants ⟨Nat.le_of_ble_eq_true rfl, Nat.le_of_ble_eq_true rfl⟩ q1070 q1072 qs15 q133 q1073 rfl (Nat.le_of_ble_eq_true rfl) dX7_line_58) hE
          refine x_goR (r := none) (t_X7_wants C _ e26) (x_rV (M' := mi_X7_wants) (n := 0) (As := []) (t_X7_wants C _ e26) c26 rfl rfl md_X7_wants ⟨Nat.le_of_ble_eq_true rfl, Nat.le_of_ble_eq_true rfl⟩ q1070 q1072 qs15 q133 q1073 rfl (Nat.le_of_ble_eq_true rfl) dX7_line_58) ?_
          refine x_goto (tgt := 156) dX7_line_61 (by decide) ?_
          obtain rfl := Option.some.inj H
          exact x_vretT hE rfl dX7_line_156
      · rw [if_neg c6] at H
        refine x_aload_n 0 rfl dX7_line_41 ?_
        obtain ⟨c27, H⟩ := oit H
        rcases obT H with ⟨a27, h27, e27, rfl⟩ | ⟨v27, h27, e27, H⟩
        · exact x_goX (t_X7_sells C _ e27) (x_rV (M' := mi_X7_sells) (n := 0) (As := []) (t_X7_sells C _ e27) c27 rfl rfl md_X7_sells ⟨Nat.le_of_ble_eq_true rfl, Nat.le_of_ble_eq_true rfl⟩ q1037 q1039 qs13 q133 q1040 rfl (Nat.le_of_ble_eq_true rfl) dX7_line_42) hE
        refine x_goR (r := none) (t_X7_sells C _ e27) (x_rV (M' := mi_X7_sells) (n := 0) (As := []) (t_X7_sells C _ e27) c27 rfl rfl md_X7_sells ⟨Nat.le_of_ble_eq_true rfl, Nat.le_of_ble_eq_true rfl⟩ q1037 q1039 qs13 q133 q1040 rfl (Nat.le_of_ble_eq_true rfl) dX7_line_42) ?_
        refine x_goto (tgt := 156) dX7_line_45 (by decide) ?_
        obtain rfl := Option.some.inj H
        exact x_vretT hE rfl dX7_line_156
    · rw [if_neg c4] at H
      refine x_aload_n 0 rfl dX7_line_25 ?_
      obtain ⟨c28, H⟩ := oit H
      rcases obT H with ⟨a28, h28, e28, rfl⟩ | ⟨v28, h28, e28, H⟩
      · exact x_goX (t_X7_good C _ e28) (x_rV (M' := mi_X7_good) (n := 0) (As := []) (t_X7_good C _ e28) c28 rfl rfl md_X7_good ⟨Nat.le_of_ble_eq_true rfl, Nat.le_of_ble_eq_true rfl⟩ q1027 q1029 qs12 q133 q1030 rfl (Nat.le_of_ble_eq_true rfl) dX7_line_26) hE
      refine x_goR (r := none) (t_X7_good C _ e28) (x_rV (M' := mi_X7_good) (n := 0) (As := []) (t_X7_good C _ e28) c28 rfl rfl md_X7_good ⟨Nat.le_of_ble_eq_true rfl, Nat.le_of_ble_eq_true rfl⟩ q1027 q1029 qs12 q133 q1030 rfl (Nat.le_of_ble_eq_true rfl) dX7_line_26) ?_
      refine x_goto (tgt := 156) dX7_line_29 (by decide) ?_
      obtain rfl := Option.some.inj H
      exact x_vretT hE rfl dX7_line_156
  · rw [if_neg c2] at H
    refine x_aload_n 0 rfl dX7_line_9 ?_
    obtain ⟨c29, H⟩ := oit H
    rcases obT H with ⟨a29, h29, e29, rfl⟩ | ⟨v29, h29, e29, H⟩
    · exact x_goX (t_X7_person C _ e29) (x_rV (M' := mi_X7_person) (n := 0) (As := []) (t_X7_person C _ e29) c29 rfl rfl md_X7_person ⟨Nat.le_of_ble_eq_true rfl, Nat.le_of_ble_eq_true rfl⟩ q735 q737 qs5 q133 q738 rfl (Nat.le_of_ble_eq_true rfl) dX7_line_10) hE
    refine x_goR (r := none) (t_X7_person C _ e29) (x_rV (M' := mi_X7_person) (n := 0) (As := []) (t_X7_person C _ e29) c29 rfl rfl md_X7_person ⟨Nat.le_of_ble_eq_true rfl, Nat.le_of_ble_eq_true rfl⟩ q735 q737 qs5 q133 q738 rfl (Nat.le_of_ble_eq_true rfl) dX7_line_10) ?_
    refine x_goto (tgt := 156) dX7_line_13 (by decide) ?_
    obtain rfl := Option.some.inj H
    exact x_vretT hE rfl dX7_line_156
abbrev mi_X7_read : xM := (cX7_read, yX7_read, 1, some (.object "StrangerMarket$County"), 15)
theorem md_X7_read : xMD mi_X7_read 0 := ⟨by decide, by decide, by decide +kernel⟩
def f_X7_read_b35 (r0 : Nat) (h : mH) : Option ((Nat ⊕ Nat) × mH) := (gFr [5] 9 h r0).bind fun v2 => some (.inl (v2), h)
theorem t_X7_read_b35 {G : xG} {C : xC} {o : (Nat ⊕ Nat) × mH} (hE : xEndT G C [] (xoA "StrangerMarket$Fault" o.1) o.2) (r0 : Nat) (h : mH) (H : f_X7_read_b35 r0 h = some o) : X G C mi_X7_read 35 [(0, .ref r0)] [] h := by
  unfold f_X7_read_b35 at H
  refine x_aload_n 0 rfl dX7_read_35 ?_
  obtain ⟨v2, e2, H⟩ := ob H
  refine x_getf fg_X7_14 (gFr_spec e2) dX7_read_36 ?_
  obtain rfl := Option.some.inj H
  exact x_aretT hE rfl (by first | exact Or.inl ⟨_, rfl⟩ | exact Or.inr ⟨_, rfl⟩) dX7_read_39
def f_X7_read_L4 (k35 : Nat → mH → Option ((Nat ⊕ Nat) × mH)) : Nat → Nat → mH → Option ((Nat ⊕ Nat) × mH)
  | 0, _, _ => none
  | n + 1, r0, h => (gFi [5] 4 h r0).bind fun v3 => if v3 = 0 then k35 r0 h else if gC h r0 = 5 then bT (f_X7_line r0  h) fun v5 h5 => if gC h5 r0 ∈ [5] then bT (f_X6_end r0  h5) fun v6 h6 => (gFr [5] 9 h6 r0).bind fun v7 => (gFi [1] 0 h6 v7).bind fun v8 => (pF [1] 0 (.int (v8 + (1 : Int32))) h6 v7).bind fun h9 => (f_X7_read_L4 k35 n) r0 h9 else none else none
theorem t_X7_read_L4 {G : xG} {C : xC} {o : (Nat ⊕ Nat) × mH} (hE : xEndT G C [] (xoA "StrangerMarket$Fault" o.1) o.2) {k35 : Nat → mH → Option ((Nat ⊕ Nat) × mH)} (hk35 : ∀ (r0 : Nat) (h : mH), k35 r0 h = some o → X G C mi_X7_read 35 [(0, .ref r0)] [] h) : ∀ (n : Nat) (r0 : Nat) (h : mH), f_X7_read_L4 k35 n r0 h = some o → X G C mi_X7_read 4 [(0, .ref r0)] [] h := by
  intro n
  induction n with
  | zero => intro r0 h H; exact nomatch (show (none : Option ((Nat ⊕ Nat) × mH)) = some o from H)
  | succ n ih =>
    intro r0 h H
    rw [f_X7_read_L4] at H
    refine x_aload_n 0 rfl dX7_read_4 ?_
    obtain ⟨v3, e3, H⟩ := ob H
    refine x_getf fg_X7_23 (gFi_spec e3) dX7_read_5 ?_
    refine x_if_eq 35 dX7_read_8 (by decide) (fun c4 => ?_) (fun c4 => ?_)
    · rw [if_pos c4] at H
      exact hk35 _ _ H
    · rw [if_neg c4] at H
      refine x_aload_n 0 rfl dX7_read_11 ?_
      obtain ⟨c5, H⟩ := oit H
      rcases obT H with ⟨a5, h5, e5, rfl⟩ | ⟨v5, h5, e5, H⟩
      · exact x_goX (t_X7_line C _ e5) (x_rV (M' := mi_X7_line) (n := 0) (As := []) (t_X7_line C _ e5) c5 rfl rfl md_X7_line ⟨Nat.le_of_ble_eq_true rfl, Nat.le_of_ble_eq_true rfl⟩ q716 q718 qs4 q133 q719 rfl (Nat.le_of_ble_eq_true rfl) dX7_read_12) hE
      refine x_goR (r := none) (t_X7_line C _ e5) (x_rV (M' := mi_X7_line) (n := 0) (As := []) (t_X7_line C _ e5) c5 rfl rfl md_X7_line ⟨Nat.le_of_ble_eq_true rfl, Nat.le_of_ble_eq_true rfl⟩ q716 q718 qs4 q133 q719 rfl (Nat.le_of_ble_eq_true rfl) dX7_read_12) ?_
      refine x_aload_n 0 rfl dX7_read_15 ?_
      obtain ⟨c6, H⟩ := oit H
      rcases obT H with ⟨a6, h6, e6, rfl⟩ | ⟨v6, h6, e6, H⟩
      · exact x_goX (t_X6_end C _ e6) (x_rU (M' := mi_X6_end) (n := 0) (As := []) (t_X6_end C _ e6) c6 up_X7_30_5 (by decide +kernel) ⟨Nat.le_of_ble_eq_true rfl, Nat.le_of_ble_eq_true rfl⟩ q1099 rfl (Nat.le_of_ble_eq_true rfl) dX7_read_16) hE
      refine x_goR (r := none) (t_X6_end C _ e6) (x_rU (M' := mi_X6_end) (n := 0) (As := []) (t_X6_end C _ e6) c6 up_X7_30_5 (by decide +kernel) ⟨Nat.le_of_ble_eq_true rfl, Nat.le_of_ble_eq_true rfl⟩ q1099 rfl (Nat.le_of_ble_eq_true rfl) dX7_read_16) ?_
      refine x_aload_n 0 rfl dX7_read_19 ?_
      obtain ⟨v7, e7, H⟩ := ob H
      refine x_getf fg_X7_14 (gFr_spec e7) dX7_read_20 ?_
      refine x_dup dX7_read_23 rfl ?_
      obtain ⟨v8, e8, H⟩ := ob H
      refine x_getf fg_X7_33 (gFi_spec e8) dX7_read_24 ?_
      refine x_iconst (1 : Int32) dX7_read_27 ic_1 ?_
      refine x_iadd dX7_read_28 ?_
      obtain ⟨h9, e9, H⟩ := ob H
      refine x_putf (fp_X7_33 _) rfl rfl e9 dX7_read_29 ?_
      refine x_goto (tgt := 4) dX7_read_32 (by decide) ?_
      exact ih _ _ H
def f_X7_read (r0 : Nat) (h : mH) : Option ((Nat ⊕ Nat) × mH) := if gC h r0 ∈ [5] then bR (f_X6_go r0  h) fun a1 g1 => f_X7_read_L4 (f_X7_read_b35) xFu r0 g1 else none
theorem t_X7_read {G : xG} (C0 : xC) {l : Launch} {r0 : Nat} (h : mH) {o : (Nat ⊕ Nat) × mH} (H : f_X7_read r0 h = some o) : XT G l mi_X7_read [.ref r0] h (xoA "StrangerMarket$Fault" o.1) o.2 := by
  refine XT.of C0 (by decide) (Nat.le_of_ble_eq_true rfl) (fun C _ _ _ hE => ?_)
  show X G C mi_X7_read 0 [(0, .ref r0)] [] h
  unfold f_X7_read at H
  refine x_aload_n 0 rfl dX7_read_0 ?_
  obtain ⟨c1, H⟩ := oit H
  obtain ⟨a1, g1, e1, H⟩ := obR H
  refine x_callU (M' := mi_X6_go) (n := 0) (As := []) (t_X6_go C _ e1) c1 up_X7_20_5 (by decide +kernel) ⟨Nat.le_of_ble_eq_true rfl, Nat.le_of_ble_eq_true rfl⟩ q522 rfl (Nat.le_of_ble_eq_true rfl) dX7_read_1 ?_
  exact t_X7_read_L4 hE (t_X7_read_b35 hE) xFu _ _ H
abbrev mi_X1_county : xM := (cX1_county, yX1_county, 3, some .int, 16)
theorem md_X1_county : xMD mi_X1_county 0 := ⟨by decide, by decide, by decide +kernel⟩
def f_X1_county_b59 (r0 : Nat) (s0 : Nat) (h : mH) : Option (Int32 × mH) := (gFi [8] 6 h s0).bind fun v6 => (pF [0] 2 (.int v6) h r0).bind fun h7 => (gFi [8] 7 h7 s0).bind fun v8 => some (((-1 : Int32) - v8), h7)
theorem t_X1_county_b59 {G : xG} {C : xC} {o : Int32 × mH} (hE : xEndT G C (tableOf [(10, 58, 59, 119)]) (.inl (some (.int o.1))) o.2) (r0 : Nat) (s0 : Nat) (h : mH) (H : f_X1_county_b59 r0 s0 h = some o) : X G C mi_X1_county 59 [(0, .ref r0)] [.ref s0] h := by
  unfold f_X1_county_b59 at H
  refine x_astore_n [1, 0] dX1_county_59 (by decide) rfl ?_
  refine x_aload_n 0 rfl dX1_county_60 ?_
  refine x_aload_n 1 rfl dX1_county_61 ?_
  obtain ⟨v6, e6, H⟩ := ob H
  refine x_getf fg_X1_121 (gFi_spec e6) dX1_county_62 ?_
  obtain ⟨h7, e7, H⟩ := ob H
  refine x_putf (fp_X1_97 _) rfl rfl e7 dX1_county_65 ?_
  refine x_iconst (-1 : Int32) dX1_county_68 ic_m1 ?_
  refine x_aload_n 1 rfl dX1_county_69 ?_
  obtain ⟨v8, e8, H⟩ := ob H
  refine x_getf fg_X1_124 (gFi_spec e8) dX1_county_70 ?_
  refine x_isub dX1_county_73 ?_
  obtain rfl := Option.some.inj H
  exact x_iretT hE rfl rfl dX1_county_74
def f_X1_county (r0 : Nat) (h : mH) : Option (Int32 × mH) := if gC h r0 = 0 then bR (f_X1_take r0  h) fun a1 g1 => (pF [0] 2 (.int (0 : Int32)) g1 r0).bind fun h2 => (gFr [0] 0 (xnw h2 (.inr (5, [.ref 0, .int 0, .int 0, .int 0, .int 0, .int 0, .int 0, .int 0, .ref 0, .ref 0, .int 0])) 11) r0).bind fun v3 => if 6 ≤ h2.2.1 then bR (f_X7_init h2.2.1 v3 a1 (xnw h2 (.inr (5, [.ref 0, .int 0, .int 0, .int 0, .int 0, .int 0, .int 0, .int 0, .ref 0, .ref 0, .int 0])) 11)) fun a4 g4 => if gC g4 h2.2.1 = 5 then bH (f_X7_read h2.2.1  g4) (fun a5 h5 => if 6 ≤ a5 then f_X1_county_b59 r0 a5 h5 else none) fun v5 h5 => (pF [0] 3 (.ref v5) h5 r0).bind fun h9 => (gFr [0] 4 h9 r0).bind fun v10 => (gFr [0] 3 h9 r0).bind fun v11 => if gC h9 v10 = 2 then bR (f_X3_begin v10 v11 h9) fun a12 g12 => (pF [0] 6 (.ref 0) g12 r0).bind fun h13 => (pF [0] 8 (.int (0 : Int32)) h13 r0).bind fun h14 => (gFr [0] 3 h14 r0).bind fun v15 => (gFi [1] 0 h14 v15).bind fun v16 => some (v16, h14) else none else none else none else none
theorem t_X1_county {G : xG} (C0 : xC) {l : Launch} {r0 : Nat} (h : mH) {o : Int32 × mH} (H : f_X1_county r0 h = some o) : XRW G l mi_X1_county [(10, 58, 59, 119)] [.ref r0] h (some (.int o.1)) o.2 := by
  refine XRW.of C0 (by decide) (Nat.le_of_ble_eq_true rfl) (fun C _ _ _ hE => ?_)
  show X G C mi_X1_county 0 [(0, .ref r0)] [] h
  unfold f_X1_county at H
  refine x_aload_n 0 rfl dX1_county_0 ?_
  obtain ⟨c1, H⟩ := oit H
  obtain ⟨a1, g1, e1, H⟩ := obR H
  refine x_callV (M' := mi_X1_take) (n := 0) (As := []) (t_X1_take C _ e1) c1 rfl rfl md_X1_take ⟨Nat.le_of_ble_eq_true rfl, Nat.le_of_ble_eq_true rfl⟩ q453 q455 qs3 q120 q456 rfl (Nat.le_of_ble_eq_true rfl) dX1_county_1 ?_
  refine x_istore_n [1, 0] dX1_county_4 (by decide) rfl ?_
  refine x_aload_n 0 rfl dX1_county_5 ?_
  refine x_iconst (0 : Int32) dX1_county_6 ic_0 ?_
  obtain ⟨h2, e2, H⟩ := ob H
  refine x_putf (fp_X1_97 _) rfl rfl e2 dX1_county_7 ?_
  refine x_aload_n 0 rfl dX1_county_10 ?_
  refine x_new (fs := [.ref 0, .int 0, .int 0, .int 0, .int 0, .int 0, .int 0, .int 0, .ref 0, .ref 0, .int 0]) ci_5 q457 q458 q133 (nf_X7 G) rfl dX1_county_11 ?_
  refine x_dup dX1_county_14 rfl ?_
  refine x_aload_n 0 rfl dX1_county_15 ?_
  obtain ⟨v3, e3, H⟩ := ob H
  refine x_getf fg_X1_18 (gFr_spec e3) dX1_county_16 ?_
  refine x_iload_n 1 rfl dX1_county_19 ?_
  obtain ⟨c4, H⟩ := oit H
  obtain ⟨a4, g4, e4, H⟩ := obR H
  refine x_callI (M' := mi_X7_init) (n := 2) (As := [.ref v3, .int a1]) (t_X7_init C _ e4) c4 md_X7_init ⟨Nat.le_of_ble_eq_true rfl, Nat.le_of_ble_eq_true rfl⟩ rfl rfl q459 q460 q133 q461 rfl (Nat.le_of_ble_eq_true rfl) dX1_county_20 ?_
  obtain ⟨c5, H⟩ := oit H
  rcases obH H with ⟨a5, h5, e5, H⟩ | ⟨v5, h5, e5, H⟩
  · obtain ⟨c, H⟩ := oit H
    refine x_goH (x := ⟨10, 58, 59, 119⟩) (t_X7_read C _ e5) (x_rV (M' := mi_X7_read) (n := 0) (As := []) (t_X7_read C _ e5) c5 rfl rfl md_X7_read ⟨Nat.le_of_ble_eq_true rfl, Nat.le_of_ble_eq_true rfl⟩ q513 q514 q515 q133 q516 rfl (Nat.le_of_ble_eq_true rfl) dX1_county_23) c hE.2.2.2 (by decide) (by decide) q452 ?_
    refine X.sub [0] rfl ?_
    exact t_X1_county_b59 hE _ _ _ H
  refine x_goR (r := (some (.ref v5))) (t_X7_read C _ e5) (x_rV (M' := mi_X7_read) (n := 0) (As := []) (t_X7_read C _ e5) c5 rfl rfl md_X7_read ⟨Nat.le_of_ble_eq_true rfl, Nat.le_of_ble_eq_true rfl⟩ q513 q514 q515 q133 q516 rfl (Nat.le_of_ble_eq_true rfl) dX1_county_23) ?_
  obtain ⟨h9, e9, H⟩ := ob H
  refine x_putf (fp_X1_25 _) rfl rfl e9 dX1_county_26 ?_
  refine x_aload_n 0 rfl dX1_county_29 ?_
  obtain ⟨v10, e10, H⟩ := ob H
  refine x_getf fg_X1_36 (gFr_spec e10) dX1_county_30 ?_
  refine x_aload_n 0 rfl dX1_county_33 ?_
  obtain ⟨v11, e11, H⟩ := ob H
  refine x_getf fg_X1_25 (gFr_spec e11) dX1_county_34 ?_
  obtain ⟨c12, H⟩ := oit H
  obtain ⟨a12, g12, e12, H⟩ := obR H
  refine x_callV (M' := mi_X3_begin) (n := 1) (As := [.ref v11]) (t_X3_begin C _ e12) c12 rfl rfl md_X3_begin ⟨Nat.le_of_ble_eq_true rfl, Nat.le_of_ble_eq_true rfl⟩ q305 q306 q307 q125 q308 rfl (Nat.le_of_ble_eq_true rfl) dX1_county_37 ?_
  refine x_pop dX1_county_40 rfl ?_
  refine x_aload_n 0 rfl dX1_county_41 ?_
  refine x_null dX1_county_42 ?_
  obtain ⟨h13, e13, H⟩ := ob H
  refine x_putf (fp_X1_109 _) rfl rfl e13 dX1_county_43 ?_
  refine x_aload_n 0 rfl dX1_county_46 ?_
  refine x_iconst (0 : Int32) dX1_county_47 ic_0 ?_
  obtain ⟨h14, e14, H⟩ := ob H
  refine x_putf (fp_X1_113 _) rfl rfl e14 dX1_county_48 ?_
  refine x_aload_n 0 rfl dX1_county_51 ?_
  obtain ⟨v15, e15, H⟩ := ob H
  refine x_getf fg_X1_25 (gFr_spec e15) dX1_county_52 ?_
  obtain ⟨v16, e16, H⟩ := ob H
  refine x_getf fg_X1_116 (gFi_spec e16) dX1_county_55 ?_
  obtain rfl := Option.some.inj H
  exact x_iretT hE rfl rfl dX1_county_58
