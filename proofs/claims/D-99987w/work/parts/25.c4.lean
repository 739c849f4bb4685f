set_option maxRecDepth 100000
set_option maxHeartbeats 4000000
abbrev mi_X19_init : xM := (cX19_init, yX19_init, 4, none, 2)
theorem md_X19_init : xMD mi_X19_init 3 := ⟨by decide, by decide, by decide +kernel⟩
def f_X19_init (r0 : Nat) (r1 : Nat) (x2 : Int32) (r3 : Nat) (h : mH) : Option (Unit × mH) := if 6 ≤ r0 then bR (f_X6_init r0 r1 x2 (200 : Int32) h) fun a1 g1 => (pF [7] 9 (.ref r3) g1 r0).bind fun h2 => some ((), h2) else none
theorem t_X19_init {G : xG} (C0 : xC) {l : Launch} {r0 : Nat} {r1 : Nat} {x2 : Int32} {r3 : Nat} (h : mH) {o : Unit × mH} (H : f_X19_init r0 r1 x2 r3 h = some o) : XR G l mi_X19_init [.ref r0, .ref r1, .int x2, .ref r3] h none o.2 := by
  refine XR.of C0 (by decide) (Nat.le_of_ble_eq_true rfl) (fun C _ _ _ hE => ?_)
  show X G C mi_X19_init 0 [(0, .ref r0), (1, .ref r1), (2, .int x2), (3, .ref r3)] [] h
  unfold f_X19_init at H
  refine x_aload_n 0 rfl dX19_init_0 ?_
  refine x_aload_n 1 rfl dX19_init_1 ?_
  refine x_iload_n 2 rfl dX19_init_2 ?_
  refine x_sipush (200 : Int32) dX19_init_3 si_200 ?_
  obtain ⟨c1, H⟩ := oit H
  obtain ⟨a1, g1, e1, H⟩ := obR H
  refine x_callI (M' := mi_X6_init) (n := 3) (As := [.ref r1, .int x2, .int (200 : Int32)]) (t_X6_init C _ e1) c1 md_X6_init ⟨Nat.le_of_ble_eq_true rfl, Nat.le_of_ble_eq_true rfl⟩ rfl rfl q1648 q463 q132 q464 rfl (Nat.le_of_ble_eq_true rfl) dX19_init_6 ?_
  refine x_aload_n 0 rfl dX19_init_9 ?_
  refine x_aload_n 3 rfl dX19_init_10 ?_
  obtain ⟨h2, e2, H⟩ := ob H
  refine x_putf fp_X19_9 rfl rfl e2 dX19_init_11 ?_
  obtain rfl := Option.some.inj H
  exact x_vret hE rfl dX19_init_14
abbrev mi_X19_read : xM := (cX19_read, yX19_read, 2, some (.object "StrangerMarket$Cond"), 94)
theorem md_X19_read : xMD mi_X19_read 0 := ⟨by decide, by decide, by decide +kernel⟩
def f_X19_read_b22 (r1 : Nat) (s0 : Nat) (s1 : Int32) (h : mH) : Option ((Nat ⊕ Nat) × mH) := if gC h s0 ∈ [7] then bT (f_X6_need s0 s1 (1 : Int32) h) fun v5 h5 => some (.inl (r1), h5) else none
theorem t_X19_read_b22 {G : xG} {C : xC} {o : (Nat ⊕ Nat) × mH} (hE : xEndT G C [] (xoA "StrangerMarket$Fault" o.1) o.2) (r1 : Nat) (s0 : Nat) (s1 : Int32) (h : mH) (H : f_X19_read_b22 r1 s0 s1 h = some o) : X G C mi_X19_read 22 [(1, .ref r1)] [.int s1, .ref s0] h := by
  unfold f_X19_read_b22 at H
  refine x_iconst (1 : Int32) dX19_read_22 ic_1 ?_
  obtain ⟨c5, H⟩ := oit H
  rcases obT H with ⟨a5, h5, e5, rfl⟩ | ⟨v5, h5, e5, H⟩
  · exact x_goX (t_X6_need C _ e5) (x_rU (M' := mi_X6_need) (n := 2) (As := [.int s1, .int (1 : Int32)]) (t_X6_need C _ e5) c5 up_X19_27_7 (by decide +kernel) ⟨Nat.le_of_ble_eq_true rfl, Nat.le_of_ble_eq_true rfl⟩ q749 rfl (Nat.le_of_ble_eq_true rfl) dX19_read_23) hE
  refine x_goR (r := none) (t_X6_need C _ e5) (x_rU (M' := mi_X6_need) (n := 2) (As := [.int s1, .int (1 : Int32)]) (t_X6_need C _ e5) c5 up_X19_27_7 (by decide +kernel) ⟨Nat.le_of_ble_eq_true rfl, Nat.le_of_ble_eq_true rfl⟩ q749 rfl (Nat.le_of_ble_eq_true rfl) dX19_read_23) ?_
  refine x_aload_n 0 rfl dX19_read_26 ?_
  obtain rfl := Option.some.inj H
  exact x_aretT hE rfl (by first | exact Or.inl ⟨_, rfl⟩ | exact Or.inr ⟨_, rfl⟩) dX19_read_27
def f_X19_read (r0 : Nat) (h : mH) : Option ((Nat ⊕ Nat) × mH) := if gC h r0 ∈ [7] then bR (f_X6_go r0  h) fun a1 g1 => if gC g1 r0 = 7 then bT (f_X19_or 80 r0  g1) fun v2 h2 => (gFi [7] 4 h2 r0).bind fun v3 => if v3 = 0 then f_X19_read_b22 v2 r0 (1 : Int32) h2 else f_X19_read_b22 v2 r0 (0 : Int32) h2 else none else none
theorem t_X19_read {G : xG} (C0 : xC) {l : Launch} {r0 : Nat} (h : mH) {o : (Nat ⊕ Nat) × mH} (H : f_X19_read r0 h = some o) : XT G l mi_X19_read [.ref r0] h (xoA "StrangerMarket$Fault" o.1) o.2 := by
  refine XT.of C0 (by decide) (Nat.le_of_ble_eq_true rfl) (fun C _ _ _ hE => ?_)
  show X G C mi_X19_read 0 [(0, .ref r0)] [] h
  unfold f_X19_read at H
  refine x_aload_n 0 rfl dX19_read_0 ?_
  obtain ⟨c1, H⟩ := oit H
  obtain ⟨a1, g1, e1, H⟩ := obR H
  refine x_callU (M' := mi_X6_go) (n := 0) (As := []) (t_X6_go C _ e1) c1 up_X19_15_7 (by decide +kernel) ⟨Nat.le_of_ble_eq_true rfl, Nat.le_of_ble_eq_true rfl⟩ q522 rfl (Nat.le_of_ble_eq_true rfl) dX19_read_1 ?_
  refine x_aload_n 0 rfl dX19_read_4 ?_
  obtain ⟨c2, H⟩ := oit H
  rcases obT H with ⟨a2, h2, e2, rfl⟩ | ⟨v2, h2, e2, H⟩
  · exact x_goX (t_X19_or C 80 _ e2) (x_rV (M' := (mi_X19_or 80)) (n := 0) (As := []) (t_X19_or C 80 _ e2) c2 rfl rfl (md_X19_or 80) ⟨Nat.le_of_ble_eq_true rfl, Nat.le_of_ble_eq_true rfl⟩ q1676 q1678 qs42 q157 q1679 rfl (Nat.le_of_ble_eq_true rfl) dX19_read_5) hE
  refine x_goR (r := (some (.ref v2))) (t_X19_or C 80 _ e2) (x_rV (M' := (mi_X19_or 80)) (n := 0) (As := []) (t_X19_or C 80 _ e2) c2 rfl rfl (md_X19_or 80) ⟨Nat.le_of_ble_eq_true rfl, Nat.le_of_ble_eq_true rfl⟩ q1676 q1678 qs42 q157 q1679 rfl (Nat.le_of_ble_eq_true rfl) dX19_read_5) ?_
  refine x_astore_n [1, 0] dX19_read_8 (by decide) rfl ?_
  refine x_aload_n 0 rfl dX19_read_9 ?_
  refine x_aload_n 0 rfl dX19_read_10 ?_
  obtain ⟨v3, e3, H⟩ := ob H
  refine x_getf fg_X19_23 (gFi_spec e3) dX19_read_11 ?_
  refine x_if_ne 21 dX19_read_14 (by decide) (fun c4 => ?_) (fun c4 => ?_)
  · rw [if_neg c4] at H
    refine x_iconst (0 : Int32) dX19_read_21 ic_0 ?_
    refine X.sub [1] rfl ?_
    exact t_X19_read_b22 hE _ _ _ _ H
  · rw [if_pos c4] at H
    refine x_iconst (1 : Int32) dX19_read_17 ic_1 ?_
    refine x_goto (tgt := 22) dX19_read_18 (by decide) ?_
    refine X.sub [1] rfl ?_
    exact t_X19_read_b22 hE _ _ _ _ H
abbrev mi_X1_persons : xM := (cX1_persons, yX1_persons, 1, some .int, 2)
theorem md_X1_persons : xMD mi_X1_persons 0 := ⟨by decide, by decide, by decide +kernel⟩
def f_X1_persons (r0 : Nat) (h : mH) : Option (Int32 × mH) := (gFr [0] 3 h r0).bind fun v1 => (gFr [1] 4 h v1).bind fun v2 => if gC h v2 = 21 then bR (f_J2_size v2  h) fun a3 g3 => some (a3, g3) else none
theorem t_X1_persons {G : xG} (C0 : xC) {l : Launch} {r0 : Nat} (h : mH) {o : Int32 × mH} (H : f_X1_persons r0 h = some o) : XR G l mi_X1_persons [.ref r0] h (some (.int o.1)) o.2 := by
  refine XR.of C0 (by decide) (Nat.le_of_ble_eq_true rfl) (fun C _ _ _ hE => ?_)
  show X G C mi_X1_persons 0 [(0, .ref r0)] [] h
  unfold f_X1_persons at H
  refine x_aload_n 0 rfl dX1_persons_0 ?_
  obtain ⟨v1, e1, H⟩ := ob H
  refine x_getf fg_X1_25 (gFr_spec e1) dX1_persons_1 ?_
  obtain ⟨v2, e2, H⟩ := ob H
  refine x_getf fg_X1_134 (gFr_spec e2) dX1_persons_4 ?_
  obtain ⟨c3, H⟩ := oit H
  obtain ⟨a3, g3, e3, H⟩ := obR H
  refine x_callV (M' := mi_J2_size) (n := 0) (As := []) (t_J2_size C _ e3) c3 rfl rfl md_J2_size ⟨Nat.le_of_ble_eq_true rfl, Nat.le_of_ble_eq_true rfl⟩ q1144 q317 q318 q124 q319 rfl (Nat.le_of_ble_eq_true rfl) dX1_persons_7 ?_
  obtain rfl := Option.some.inj H
  exact x_iret hE rfl rfl dX1_persons_10
abbrev mi_X1_all : xM := (cX1_all, yX1_all, 1, some .int, 3)
theorem md_X1_all : xMD mi_X1_all 0 := ⟨by decide, by decide, by decide +kernel⟩
def f_X1_all (r0 : Nat) (h : mH) : Option (Int32 × mH) := if gC h r0 = 0 then bR (f_X1_persons r0  h) fun a1 g1 => some ((((1 : Int32) <<< (a1 &&& 31)) - (1 : Int32)), g1) else none
theorem t_X1_all {G : xG} (C0 : xC) {l : Launch} {r0 : Nat} (h : mH) {o : Int32 × mH} (H : f_X1_all r0 h = some o) : XR G l mi_X1_all [.ref r0] h (some (.int o.1)) o.2 := by
  refine XR.of C0 (by decide) (Nat.le_of_ble_eq_true rfl) (fun C _ _ _ hE => ?_)
  show X G C mi_X1_all 0 [(0, .ref r0)] [] h
  unfold f_X1_all at H
  refine x_iconst (1 : Int32) dX1_all_0 ic_1 ?_
  refine x_aload_n 0 rfl dX1_all_1 ?_
  obtain ⟨c1, H⟩ := oit H
  obtain ⟨a1, g1, e1, H⟩ := obR H
  refine x_callV (M' := mi_X1_persons) (n := 0) (As := []) (t_X1_persons C _ e1) c1 rfl rfl md_X1_persons ⟨Nat.le_of_ble_eq_true rfl, Nat.le_of_ble_eq_true rfl⟩ q1140 q1142 qs22 q120 q1143 rfl (Nat.le_of_ble_eq_true rfl) dX1_all_2 ?_
  refine x_ishl dX1_all_5 ?_
  refine x_iconst (1 : Int32) dX1_all_6 ic_1 ?_
  refine x_isub dX1_all_7 ?_
  obtain rfl := Option.some.inj H
  exact x_iret hE rfl rfl dX1_all_8
abbrev mi_X1_tellsOn : xM := (cX1_tellsOn, yX1_tellsOn, 5, some .int, 6)
theorem md_X1_tellsOn : xMD mi_X1_tellsOn 2 := ⟨by decide, by decide, by decide +kernel⟩
def f_X1_tellsOn_b39 (kb : Nat → Int32 → Int32 → Int32 → Int32 → mH → Option (Int32 × mH)) (r0 : Nat) (x1 : Int32) (x2 : Int32) (x3 : Int32) (x4 : Int32) (h : mH) : Option (Int32 × mH) := kb r0 x1 x2 x3 (x4 + (1 : Int32)) h
theorem t_X1_tellsOn_b39 {G : xG} {C : xC} {o : Int32 × mH} (hE : xEnd G C (some (.int o.1)) o.2) {kb : Nat → Int32 → Int32 → Int32 → Int32 → mH → Option (Int32 × mH)} (hkb : ∀ (r0 : Nat) (x1 : Int32) (x2 : Int32) (x3 : Int32) (x4 : Int32) (h : mH), kb r0 x1 x2 x3 x4 h = some o → X G C mi_X1_tellsOn 5 [(0, .ref r0), (1, .int x1), (2, .int x2), (3, .int x3), (4, .int x4)] [] h) (r0 : Nat) (x1 : Int32) (x2 : Int32) (x3 : Int32) (x4 : Int32) (h : mH) (H : f_X1_tellsOn_b39 kb r0 x1 x2 x3 x4 h = some o) : X G C mi_X1_tellsOn 39 [(0, .ref r0), (1, .int x1), (2, .int x2), (3, .int x3), (4, .int x4)] [] h := by
  unfold f_X1_tellsOn_b39 at H
  refine x_iinc 4 (x4 + (1 : Int32)) [1, 2, 3, 4, 0] dX1_tellsOn_39 rfl (ii_1 _) (by decide) rfl ?_
  refine x_goto (tgt := 5) dX1_tellsOn_42 (by decide) ?_
  exact hkb _ _ _ _ _ _ H
def f_X1_tellsOn_L5 : Nat → Nat → Int32 → Int32 → Int32 → Int32 → mH → Option (Int32 × mH)
  | 0, _, _, _, _, _, _ => none
  | n + 1, r0, x1, x2, x3, x4, h => if gC h r0 = 0 then bR (f_X1_persons r0  h) fun a1 g1 => if a1 ≤ x4 then some (x3, g1) else bR (f_X1_isOf (x1 &&& (x2 ^^^ (-1 : Int32))) x4 g1) fun a3 g3 => if a3 = 0 then f_X1_tellsOn_b39 (f_X1_tellsOn_L5 n) r0 x1 x2 x3 x4 g3 else (gFr [0] 4 g3 r0).bind fun v5 => if gC g3 v5 = 2 then bR (f_X3_known v5 x4 g3) fun a6 g6 => f_X1_tellsOn_b39 (f_X1_tellsOn_L5 n) r0 x1 x2 (x3 ||| a6) x4 g6 else none else none
theorem t_X1_tellsOn_L5 {G : xG} {C : xC} {o : Int32 × mH} (hE : xEnd G C (some (.int o.1)) o.2) : ∀ (n : Nat) (r0 : Nat) (x1 : Int32) (x2 : Int32) (x3 : Int32) (x4 : Int32) (h : mH), f_X1_tellsOn_L5 n r0 x1 x2 x3 x4 h = some o → X G C mi_X1_tellsOn 5 [(0, .ref r0), (1, .int x1), (2, .int x2), (3, .int x3), (4, .int x4)] [] h := by
  intro n
  induction n with
  | zero => intro r0 x1 x2 x3 x4 h H; exact nomatch (show (none : Option (Int32 × mH)) = some o from H)
  | succ n ih =>
    intro r0 x1 x2 x3 x4 h H
    rw [f_X1_tellsOn_L5] at H
    refine x_iload 4 rfl dX1_tellsOn_5 ?_
    refine x_aload_n 0 rfl dX1_tellsOn_7 ?_
    obtain ⟨c1, H⟩ := oit H
    obtain ⟨a1, g1, e1, H⟩ := obR H
    refine x_callV (M' := mi_X1_persons) (n := 0) (As := []) (t_X1_persons C _ e1) c1 rfl rfl md_X1_persons ⟨Nat.le_of_ble_eq_true rfl, Nat.le_of_ble_eq_true rfl⟩ q1140 q1142 qs22 q120 q1143 rfl (Nat.le_of_ble_eq_true rfl) dX1_tellsOn_8 ?_
    refine x_icmp_ge 45 dX1_tellsOn_11 (by decide) (fun c2 => ?_) (fun c2 => ?_)
    · rw [if_pos c2] at H
      refine x_iload_n 3 rfl dX1_tellsOn_45 ?_
      obtain rfl := Option.some.inj H
      exact x_iret hE rfl rfl dX1_tellsOn_46
    · rw [if_neg c2] at H
      refine x_iload_n 1 rfl dX1_tellsOn_14 ?_
      refine x_iload_n 2 rfl dX1_tellsOn_15 ?_
      refine x_iconst (-1 : Int32) dX1_tellsOn_16 ic_m1 ?_
      refine x_ixor dX1_tellsOn_17 ?_
      refine x_iand dX1_tellsOn_18 ?_
      refine x_iload 4 rfl dX1_tellsOn_19 ?_
      obtain ⟨a3, g3, e3, H⟩ := obR H
      refine x_callS (M' := mi_X1_isOf) (n := 2) (As := [.int (x1 &&& (x2 ^^^ (-1 : Int32))), .int x4]) (t_X1_isOf C _ e3) md_X1_isOf ⟨Nat.le_of_ble_eq_true rfl, Nat.le_of_ble_eq_true rfl⟩ q1378 q1080 q120 q1081 rfl (Nat.le_of_ble_eq_true rfl) dX1_tellsOn_21 ?_
      refine x_if_eq 39 dX1_tellsOn_24 (by decide) (fun c4 => ?_) (fun c4 => ?_)
      · rw [if_pos c4] at H
        exact t_X1_tellsOn_b39 hE ih _ _ _ _ _ _ H
      · rw [if_neg c4] at H
        refine x_iload_n 3 rfl dX1_tellsOn_27 ?_
        refine x_aload_n 0 rfl dX1_tellsOn_28 ?_
        obtain ⟨v5, e5, H⟩ := ob H
        refine x_getf fg_X1_36 (gFr_spec e5) dX1_tellsOn_29 ?_
        refine x_iload 4 rfl dX1_tellsOn_32 ?_
        obtain ⟨c6, H⟩ := oit H
        obtain ⟨a6, g6, e6, H⟩ := obR H
        refine x_callV (M' := mi_X3_known) (n := 1) (As := [.int x4]) (t_X3_known C _ e6) c6 rfl rfl md_X3_known ⟨Nat.le_of_ble_eq_true rfl, Nat.le_of_ble_eq_true rfl⟩ q1448 q1240 q1241 q125 q1242 rfl (Nat.le_of_ble_eq_true rfl) dX1_tellsOn_34 ?_
        refine x_ior dX1_tellsOn_37 ?_
        refine x_istore_n [1, 2, 3, 0, 4] dX1_tellsOn_38 (by decide) rfl ?_
        exact t_X1_tellsOn_b39 hE ih _ _ _ _ _ _ H
def f_X1_tellsOn (r0 : Nat) (x1 : Int32) (x2 : Int32) (h : mH) : Option (Int32 × mH) := f_X1_tellsOn_L5  xFu r0 x1 x2 x1 (0 : Int32) h
theorem t_X1_tellsOn {G : xG} (C0 : xC) {l : Launch} {r0 : Nat} {x1 : Int32} {x2 : Int32} (h : mH) {o : Int32 × mH} (H : f_X1_tellsOn r0 x1 x2 h = some o) : XR G l mi_X1_tellsOn [.ref r0, .int x1, .int x2] h (some (.int o.1)) o.2 := by
  refine XR.of C0 (by decide) (Nat.le_of_ble_eq_true rfl) (fun C _ _ _ hE => ?_)
  show X G C mi_X1_tellsOn 0 [(0, .ref r0), (1, .int x1), (2, .int x2)] [] h
  unfold f_X1_tellsOn at H
  refine x_iload_n 1 rfl dX1_tellsOn_0 ?_
  refine x_istore_n [1, 2, 3, 0] dX1_tellsOn_1 (by decide) rfl ?_
  refine x_iconst (0 : Int32) dX1_tellsOn_2 ic_0 ?_
  refine x_istore [1, 2, 3, 4, 0] dX1_tellsOn_3 (by decide) rfl ?_
  exact t_X1_tellsOn_L5 hE  xFu _ _ _ _ _ _ H
abbrev mi_X1_comesTo : xM := (cX1_comesTo, yX1_comesTo, 6, some .boolean, 7)
theorem md_X1_comesTo : xMD mi_X1_comesTo 3 := ⟨by decide, by decide, by decide +kernel⟩
def f_X1_comesTo_b30 (x2 : Int32) (x4 : Int32) (h : mH) : Option (Int32 × mH) := bR (f_X1_isOf x4 x2 h) fun a1 g1 => rZ a1 g1
theorem t_X1_comesTo_b30 {G : xG} {C : xC} {o : Int32 × mH} (hE : xEnd G C (some (.int o.1)) o.2) (x2 : Int32) (x4 : Int32) (h : mH) (H : f_X1_comesTo_b30 x2 x4 h = some o) : X G C mi_X1_comesTo 30 [(2, .int x2), (4, .int x4)] [] h := by
  unfold f_X1_comesTo_b30 at H
  refine x_iload 1 rfl dX1_comesTo_30 ?_
  refine x_iload_n 0 rfl dX1_comesTo_32 ?_
  obtain ⟨a1, g1, e1, H⟩ := obR H
  refine x_callS (M' := mi_X1_isOf) (n := 2) (As := [.int x4, .int x2]) (t_X1_isOf C _ e1) md_X1_isOf ⟨Nat.le_of_ble_eq_true rfl, Nat.le_of_ble_eq_true rfl⟩ q1378 q1080 q120 q1081 rfl (Nat.le_of_ble_eq_true rfl) dX1_comesTo_33 ?_
  obtain ⟨c, rfl⟩ := rZ_spec H
  exact x_iret hE rfl c dX1_comesTo_36
def f_X1_comesTo_L8 (k30 : Int32 → Int32 → mH → Option (Int32 × mH)) : Nat → Nat → Int32 → Int32 → Int32 → Int32 → mH → Option (Int32 × mH)
  | 0, _, _, _, _, _, _ => none
  | n + 1, r0, x2, x3, x4, x5, h => if (7 : Int32) ≤ x5 then k30 x2 x4 h else if gC h r0 = 0 then bR (f_X1_tellsOn r0 x4 x3 h) fun a3 g3 => (f_X1_comesTo_L8 k30 n) r0 x2 x3 a3 (x5 + (1 : Int32)) g3 else none
theorem t_X1_comesTo_L8 {G : xG} {C : xC} {o : Int32 × mH} (hE : xEnd G C (some (.int o.1)) o.2) {k30 : Int32 → Int32 → mH → Option (Int32 × mH)} (hk30 : ∀ (x2 : Int32) (x4 : Int32) (h : mH), k30 x2 x4 h = some o → X G C mi_X1_comesTo 30 [(2, .int x2), (4, .int x4)] [] h) : ∀ (n : Nat) (r0 : Nat) (x2 : Int32) (x3 : Int32) (x4 : Int32) (x5 : Int32) (h : mH), f_X1_comesTo_L8 k30 n r0 x2 x3 x4 x5 h = some o → X G C mi_X1_comesTo 8 [(0, .ref r0), (2, .int x2), (3, .int x3), (4, .int x4), (5, .int x5)] [] h := by
  intro n
  induction n with
  | zero => intro r0 x2 x3 x4 x5 h H; exact nomatch (show (none : Option (Int32 × mH)) = some o from H)
  | succ n ih =>
    intro r0 x2 x3 x4 x5 h H
    rw [f_X1_comesTo_L8] at H
    refine x_iload 4 rfl dX1_comesTo_8 ?_
    refine x_bipush (7 : Int32) dX1_comesTo_10 bi_7 ?_
    refine x_icmp_ge 30 dX1_comesTo_12 (by decide) (fun c2 => ?_) (fun c2 => ?_)
    · rw [if_pos c2] at H
      refine X.sub [1, 3] rfl ?_
      exact hk30 _ _ _ H
    · rw [if_neg c2] at H
      refine x_aload_n 0 rfl dX1_comesTo_15 ?_
      refine x_iload 3 rfl dX1_comesTo_16 ?_
      refine x_iload_n 2 rfl dX1_comesTo_18 ?_
      obtain ⟨c3, H⟩ := oit H
      obtain ⟨a3, g3, e3, H⟩ := obR H
      refine x_callV (M' := mi_X1_tellsOn) (n := 2) (As := [.int x4, .int x3]) (t_X1_tellsOn C _ e3) c3 rfl rfl md_X1_tellsOn ⟨Nat.le_of_ble_eq_true rfl, Nat.le_of_ble_eq_true rfl⟩ q1444 q1446 qs34 q120 q1447 rfl (Nat.le_of_ble_eq_true rfl) dX1_comesTo_19 ?_
      refine x_istore [1, 2, 3, 0, 4] dX1_comesTo_22 (by decide) rfl ?_
      refine x_iinc 4 (x5 + (1 : Int32)) [1, 2, 3, 4, 0] dX1_comesTo_24 rfl (ii_1 _) (by decide) rfl ?_
      refine x_goto (tgt := 8) dX1_comesTo_27 (by decide) ?_
      exact ih _ _ _ _ _ _ H
def f_X1_comesTo (r0 : Nat) (x1 : Int32) (x2 : Int32) (x3 : Int32) (h : mH) : Option (Int32 × mH) := f_X1_comesTo_L8 (f_X1_comesTo_b30) xFu r0 x2 x3 ((1 : Int32) <<< (x1 &&& 31)) (0 : Int32) h
theorem t_X1_comesTo {G : xG} (C0 : xC) {l : Launch} {r0 : Nat} {x1 : Int32} {x2 : Int32} {x3 : Int32} (h : mH) {o : Int32 × mH} (H : f_X1_comesTo r0 x1 x2 x3 h = some o) : XR G l mi_X1_comesTo [.ref r0, .int x1, .int x2, .int x3] h (some (.int o.1)) o.2 := by
  refine XR.of C0 (by decide) (Nat.le_of_ble_eq_true rfl) (fun C _ _ _ hE => ?_)
  show X G C mi_X1_comesTo 0 [(0, .ref r0), (1, .int x1), (2, .int x2), (3, .int x3)] [] h
  unfold f_X1_comesTo at H
  refine x_iconst (1 : Int32) dX1_comesTo_0 ic_1 ?_
  refine x_iload_n 1 rfl dX1_comesTo_1 ?_
  refine x_ishl dX1_comesTo_2 ?_
  refine x_istore [1, 2, 3, 4, 0] dX1_comesTo_3 (by decide) rfl ?_
  refine x_iconst (0 : Int32) dX1_comesTo_5 ic_0 ?_
  refine x_istore [1, 2, 3, 4, 5, 0] dX1_comesTo_6 (by decide) rfl ?_
  refine X.sub [0, 2, 3, 4, 5] rfl ?_
  exact t_X1_comesTo_L8 hE (t_X1_comesTo_b30 hE) xFu _ _ _ _ _ _ H
abbrev mi_J17_bitCount : xM := (cJ17_bitCount, yJ17_bitCount, 1, some .int, 1)
theorem md_J17_bitCount : xMD mi_J17_bitCount 1 := ⟨by decide, by decide, by decide +kernel⟩
def f_J17_bitCount (x0 : Int32) (h : mH) : Option (Int32 × mH) := some (((((((((x0 - (((x0.toUInt32 >>> ((1 : Int32).toUInt32 &&& Int32.toUInt32 31)).toInt32) &&& (1431655765 : Int32))) &&& (858993459 : Int32)) + ((((x0 - (((x0.toUInt32 >>> ((1 : Int32).toUInt32 &&& Int32.toUInt32 31)).toInt32) &&& (1431655765 : Int32))).toUInt32 >>> ((2 : Int32).toUInt32 &&& Int32.toUInt32 31)).toInt32) &&& (858993459 : Int32))) + (((((x0 - (((x0.toUInt32 >>> ((1 : Int32).toUInt32 &&& Int32.toUInt32 31)).toInt32) &&& (1431655765 : Int32))) &&& (858993459 : Int32)) + ((((x0 - (((x0.toUInt32 >>> ((1 : Int32).toUInt32 &&& Int32.toUInt32 31)).toInt32) &&& (1431655765 : Int32))).toUInt32 >>> ((2 : Int32).toUInt32 &&& Int32.toUInt32 31)).toInt32) &&& (858993459 : Int32))).toUInt32 >>> ((4 : Int32).toUInt32 &&& Int32.toUInt32 31)).toInt32)) &&& (252645135 : Int32)) + (((((((x0 - (((x0.toUInt32 >>> ((1 : Int32).toUInt32 &&& Int32.toUInt32 31)).toInt32) &&& (1431655765 : Int32))) &&& (858993459 : Int32)) + ((((x0 - (((x0.toUInt32 >>> ((1 : Int32).toUInt32 &&& Int32.toUInt32 31)).toInt32) &&& (1431655765 : Int32))).toUInt32 >>> ((2 : Int32).toUInt32 &&& Int32.toUInt32 31)).toInt32) &&& (858993459 : Int32))) + (((((x0 - (((x0.toUInt32 >>> ((1 : Int32).toUInt32 &&& Int32.toUInt32 31)).toInt32) &&& (1431655765 : Int32))) &&& (858993459 : Int32)) + ((((x0 - (((x0.toUInt32 >>> ((1 : Int32).toUInt32 &&& Int32.toUInt32 31)).toInt32) &&& (1431655765 : Int32))).toUInt32 >>> ((2 : Int32).toUInt32 &&& Int32.toUInt32 31)).toInt32) &&& (858993459 : Int32))).toUInt32 >>> ((4 : Int32).toUInt32 &&& Int32.toUInt32 31)).toInt32)) &&& (252645135 : Int32)).toUInt32 >>> ((8 : Int32).toUInt32 &&& Int32.toUInt32 31)).toInt32)) + ((((((((x0 - (((x0.toUInt32 >>> ((1 : Int32).toUInt32 &&& Int32.toUInt32 31)).toInt32) &&& (1431655765 : Int32))) &&& (858993459 : Int32)) + ((((x0 - (((x0.toUInt32 >>> ((1 : Int32).toUInt32 &&& Int32.toUInt32 31)).toInt32) &&& (1431655765 : Int32))).toUInt32 >>> ((2 : Int32).toUInt32 &&& Int32.toUInt32 31)).toInt32) &&& (858993459 : Int32))) + (((((x0 - (((x0.toUInt32 >>> ((1 : Int32).toUInt32 &&& Int32.toUInt32 31)).toInt32) &&& (1431655765 : Int32))) &&& (858993459 : Int32)) + ((((x0 - (((x0.toUInt32 >>> ((1 : Int32).toUInt32 &&& Int32.toUInt32 31)).toInt32) &&& (1431655765 : Int32))).toUInt32 >>> ((2 : Int32).toUInt32 &&& Int32.toUInt32 31)).toInt32) &&& (858993459 : Int32))).toUInt32 >>> ((4 : Int32).toUInt32 &&& Int32.toUInt32 31)).toInt32)) &&& (252645135 : Int32)) + (((((((x0 - (((x0.toUInt32 >>> ((1 : Int32).toUInt32 &&& Int32.toUInt32 31)).toInt32) &&& (1431655765 : Int32))) &&& (858993459 : Int32)) + ((((x0 - (((x0.toUInt32 >>> ((1 : Int32).toUInt32 &&& Int32.toUInt32 31)).toInt32) &&& (1431655765 : Int32))).toUInt32 >>> ((2 : Int32).toUInt32 &&& Int32.toUInt32 31)).toInt32) &&& (858993459 : Int32))) + (((((x0 - (((x0.toUInt32 >>> ((1 : Int32).toUInt32 &&& Int32.toUInt32 31)).toInt32) &&& (1431655765 : Int32))) &&& (858993459 : Int32)) + ((((x0 - (((x0.toUInt32 >>> ((1 : Int32).toUInt32 &&& Int32.toUInt32 31)).toInt32) &&& (1431655765 : Int32))).toUInt32 >>> ((2 : Int32).toUInt32 &&& Int32.toUInt32 31)).toInt32) &&& (858993459 : Int32))).toUInt32 >>> ((4 : Int32).toUInt32 &&& Int32.toUInt32 31)).toInt32)) &&& (252645135 : Int32)).toUInt32 >>> ((8 : Int32).toUInt32 &&& Int32.toUInt32 31)).toInt32)).toUInt32 >>> ((16 : Int32).toUInt32 &&& Int32.toUInt32 31)).toInt32)) &&& (63 : Int32)), h)
theorem t_J17_bitCount {G : xG} (C0 : xC) {l : Launch} {x0 : Int32} (h : mH) {o : Int32 × mH} (H : f_J17_bitCount x0 h = some o) : XR G l mi_J17_bitCount [.int x0] h (some (.int o.1)) o.2 := by
  refine XR.of C0 (by decide) (Nat.le_of_ble_eq_true rfl) (fun C _ _ _ hE => ?_)
  show X G C mi_J17_bitCount 0 [(0, .int x0)] [] h
  unfold f_J17_bitCount at H
  refine x_iload_n 0 rfl dJ17_bitCount_0 ?_
  refine x_iload_n 0 rfl dJ17_bitCount_1 ?_
  refine x_iconst (1 : Int32) dJ17_bitCount_2 ic_1 ?_
  refine x_iushr dJ17_bitCount_3 ?_
  refine x_ldcw q1159 dJ17_bitCount_4 ?_
  refine x_iand dJ17_bitCount_7 ?_
  refine x_isub dJ17_bitCount_8 ?_
  refine x_istore_n [0] dJ17_bitCount_9 (by decide) rfl ?_
  refine x_iload_n 0 rfl dJ17_bitCount_10 ?_
  refine x_ldcw q1160 dJ17_bitCount_11 ?_
  refine x_iand dJ17_bitCount_14 ?_
  refine x_iload_n 0 rfl dJ17_bitCount_15 ?_
  refine x_iconst (2 : Int32) dJ17_bitCount_16 ic_2 ?_
  refine x_iushr dJ17_bitCount_17 ?_
  refine x_ldcw q1160 dJ17_bitCount_18 ?_
  refine x_iand dJ17_bitCount_21 ?_
  refine x_iadd dJ17_bitCount_22 ?_
  refine x_istore_n [0] dJ17_bitCount_23 (by decide) rfl ?_
  refine x_iload_n 0 rfl dJ17_bitCount_24 ?_
  refine x_iload_n 0 rfl dJ17_bitCount_25 ?_
  refine x_iconst (4 : Int32) dJ17_bitCount_26 ic_4 ?_
  refine x_iushr dJ17_bitCount_27 ?_
  refine x_iadd dJ17_bitCount_28 ?_
  refine x_ldcw q1161 dJ17_bitCount_29 ?_
  refine x_iand dJ17_bitCount_32 ?_
  refine x_istore_n [0] dJ17_bitCount_33 (by decide) rfl ?_
  refine x_iload_n 0 rfl dJ17_bitCount_34 ?_
  refine x_iload_n 0 rfl dJ17_bitCount_35 ?_
  refine x_bipush (8 : Int32) dJ17_bitCount_36 bi_8 ?_
  refine x_iushr dJ17_bitCount_38 ?_
  refine x_iadd dJ17_bitCount_39 ?_
  refine x_istore_n [0] dJ17_bitCount_40 (by decide) rfl ?_
  refine x_iload_n 0 rfl dJ17_bitCount_41 ?_
  refine x_iload_n 0 rfl dJ17_bitCount_42 ?_
  refine x_bipush (16 : Int32) dJ17_bitCount_43 bi_16 ?_
  refine x_iushr dJ17_bitCount_45 ?_
  refine x_iadd dJ17_bitCount_46 ?_
  refine x_istore_n [0] dJ17_bitCount_47 (by decide) rfl ?_
  refine x_iload_n 0 rfl dJ17_bitCount_48 ?_
  refine x_bipush (63 : Int32) dJ17_bitCount_49 bi_63 ?_
  refine x_iand dJ17_bitCount_51 ?_
  obtain rfl := Option.some.inj H
  exact x_iret hE rfl rfl dJ17_bitCount_52
abbrev mi_X1_many : xM := (cX1_many, yX1_many, 1, some .int, 2)
theorem md_X1_many : xMD mi_X1_many 1 := ⟨by decide, by decide, by decide +kernel⟩
def f_X1_many (x0 : Int32) (h : mH) : Option (Int32 × mH) := bR (f_J17_bitCount x0 h) fun a1 g1 => some (a1, g1)
theorem t_X1_many {G : xG} (C0 : xC) {l : Launch} {x0 : Int32} (h : mH) {o : Int32 × mH} (H : f_X1_many x0 h = some o) : XR G l mi_X1_many [.int x0] h (some (.int o.1)) o.2 := by
  refine XR.of C0 (by decide) (Nat.le_of_ble_eq_true rfl) (fun C _ _ _ hE => ?_)
  show X G C mi_X1_many 0 [(0, .int x0)] [] h
  unfold f_X1_many at H
  refine x_iload_n 0 rfl dX1_many_0 ?_
  obtain ⟨a1, g1, e1, H⟩ := obR H
  refine x_callS (M' := mi_J17_bitCount) (n := 1) (As := [.int x0]) (t_J17_bitCount C _ e1) md_J17_bitCount ⟨Nat.le_of_ble_eq_true rfl, Nat.le_of_ble_eq_true rfl⟩ q1156 q1157 q148 q1158 rfl (Nat.le_of_ble_eq_true rfl) dX1_many_1 ?_
  obtain rfl := Option.some.inj H
  exact x_iret hE rfl rfl dX1_many_4
abbrev mi_X1_apart : xM := (cX1_apart, yX1_apart, 6, some .int, 8)
theorem md_X1_apart : xMD mi_X1_apart 2 := ⟨by decide, by decide, by decide +kernel⟩
def f_X1_apart_b104 (r0 : Nat) (x4 : Int32) (h : mH) : Option (Int32 × mH) := (pF [0] 17 (.int x4) h r0).bind fun h10 => bR (f_X1_many x4 h10) fun a11 g11 => some (a11, g11)
theorem t_X1_apart_b104 {G : xG} {C : xC} {o : Int32 × mH} (hE : xEnd G C (some (.int o.1)) o.2) (r0 : Nat) (x4 : Int32) (h : mH) (H : f_X1_apart_b104 r0 x4 h = some o) : X G C mi_X1_apart 104 [(0, .ref r0), (4, .int x4)] [] h := by
  unfold f_X1_apart_b104 at H
  refine x_aload_n 0 rfl dX1_apart_104 ?_
  refine x_iload 1 rfl dX1_apart_105 ?_
  obtain ⟨h10, e10, H⟩ := ob H
  refine x_putf (fp_X1_67 _) rfl rfl e10 dX1_apart_107 ?_
  refine x_iload 1 rfl dX1_apart_110 ?_
  obtain ⟨a11, g11, e11, H⟩ := obR H
  refine x_callS (M' := mi_X1_many) (n := 1) (As := [.int x4]) (t_X1_many C _ e11) md_X1_many ⟨Nat.le_of_ble_eq_true rfl, Nat.le_of_ble_eq_true rfl⟩ q1153 q1154 q120 q1155 rfl (Nat.le_of_ble_eq_true rfl) dX1_apart_112 ?_
  obtain rfl := Option.some.inj H
  exact x_iret hE rfl rfl dX1_apart_115
def f_X1_apart_b98 (kb : Nat → Int32 → Int32 → Int32 → Int32 → Int32 → mH → Option (Int32 × mH)) (k104 : Nat → Int32 → mH → Option (Int32 × mH)) (r0 : Nat) (x1 : Int32) (x2 : Int32) (x3 : Int32) (x4 : Int32) (x5 : Int32) (h : mH) : Option (Int32 × mH) := kb r0 x1 x2 x3 x4 (x5 + (-1 : Int32)) h
theorem t_X1_apart_b98 {G : xG} {C : xC} {o : Int32 × mH} (hE : xEnd G C (some (.int o.1)) o.2) {kb : Nat → Int32 → Int32 → Int32 → Int32 → Int32 → mH → Option (Int32 × mH)} (hkb : ∀ (r0 : Nat) (x1 : Int32) (x2 : Int32) (x3 : Int32) (x4 : Int32) (x5 : Int32) (h : mH), kb r0 x1 x2 x3 x4 x5 h = some o → X G C mi_X1_apart 56 [(0, .ref r0), (1, .int x1), (2, .int x2), (3, .int x3), (4, .int x4), (5, .int x5)] [] h) {k104 : Nat → Int32 → mH → Option (Int32 × mH)} (hk104 : ∀ (r0 : Nat) (x4 : Int32) (h : mH), k104 r0 x4 h = some o → X G C mi_X1_apart 104 [(0, .ref r0), (4, .int x4)] [] h) (r0 : Nat) (x1 : Int32) (x2 : Int32) (x3 : Int32) (x4 : Int32) (x5 : Int32) (h : mH) (H : f_X1_apart_b98 kb k104 r0 x1 x2 x3 x4 x5 h = some o) : X G C mi_X1_apart 98 [(0, .ref r0), (1, .int x1), (2, .int x2), (3, .int x3), (4, .int x4), (5, .int x5)] [] h := by
  unfold f_X1_apart_b98 at H
  refine x_iinc 5 (x5 + (-1 : Int32)) [1, 2, 3, 4, 5, 0] dX1_apart_98 rfl (ii_m1 _) (by decide) rfl ?_
  refine x_goto (tgt := 56) dX1_apart_101 (by decide) ?_
  exact hkb _ _ _ _ _ _ _ H
def f_X1_apart_L56 (k104 : Nat → Int32 → mH → Option (Int32 × mH)) : Nat → Nat → Int32 → Int32 → Int32 → Int32 → Int32 → mH → Option (Int32 × mH)
  | 0, _, _, _, _, _, _, _ => none
  | n + 1, r0, x1, x2, x3, x4, x5, h => if x5 < 0 then k104 r0 x4 h else if (x5 &&& (x3 ^^^ (-1 : Int32))) = 0 then bR (f_X1_many x5 h) fun a14 g14 => bR (f_X1_many x4 g14) fun a15 g15 => if a15 < a14 then f_X1_apart_b98 (f_X1_apart_L56 k104 n) k104 r0 x1 x2 x3 x4 x5 g15 else if gC g15 r0 = 0 then bR (f_X1_comesTo r0 x1 x2 x5 g15) fun a17 g17 => if a17 = 0 then f_X1_apart_b98 (f_X1_apart_L56 k104 n) k104 r0 x1 x2 x3 x5 x5 g17 else f_X1_apart_b98 (f_X1_apart_L56 k104 n) k104 r0 x1 x2 x3 x4 x5 g17 else none else f_X1_apart_b98 (f_X1_apart_L56 k104 n) k104 r0 x1 x2 x3 x4 x5 h
theorem t_X1_apart_L56 {G : xG} {C : xC} {o : Int32 × mH} (hE : xEnd G C (some (.int o.1)) o.2) {k104 : Nat → Int32 → mH → Option (Int32 × mH)} (hk104 : ∀ (r0 : Nat) (x4 : Int32) (h : mH), k104 r0 x4 h = some o → X G C mi_X1_apart 104 [(0, .ref r0), (4, .int x4)] [] h) : ∀ (n : Nat) (r0 : Nat) (x1 : Int32) (x2 : Int32) (x3 : Int32) (x4 : Int32) (x5 : Int32) (h : mH), f_X1_apart_L56 k104 n r0 x1 x2 x3 x4 x5 h = some o → X G C mi_X1_apart 56 [(0, .ref r0), (1, .int x1), (2, .int x2), (3, .int x3), (4, .int x4), (5, .int x5)] [] h := by
  intro n
  induction n with
  | zero => intro r0 x1 x2 x3 x4 x5 h H; exact nomatch (show (none : Option (Int32 × mH)) = some o from H)
  | succ n ih =>
    intro r0 x1 x2 x3 x4 x5 h H
    rw [f_X1_apart_L56] at H
    refine x_iload 5 rfl dX1_apart_56 ?_
    refine x_if_lt 104 dX1_apart_58 (by decide) (fun c12 => ?_) (fun c12 => ?_)
    · rw [if_pos c12] at H
      refine X.sub [0, 4] rfl ?_
      exact hk104 _ _ _ H
    · rw [if_neg c12] at H
      refine x_iload 5 rfl dX1_apart_61 ?_
      refine x_iload_n 3 rfl dX1_apart_63 ?_
      refine x_iconst (-1 : Int32) dX1_apart_64 ic_m1 ?_
      refine x_ixor dX1_apart_65 ?_
      refine x_iand dX1_apart_66 ?_
      refine x_if_ne 98 dX1_apart_67 (by decide) (fun c13 => ?_) (fun c13 => ?_)
      · rw [if_neg c13] at H
        exact t_X1_apart_b98 hE ih hk104 _ _ _ _ _ _ _ H
      · rw [if_pos c13] at H
        refine x_iload 5 rfl dX1_apart_70 ?_
        obtain ⟨a14, g14, e14, H⟩ := obR H
        refine x_callS (M' := mi_X1_many) (n := 1) (As := [.int x5]) (t_X1_many C _ e14) md_X1_many ⟨Nat.le_of_ble_eq_true rfl, Nat.le_of_ble_eq_true rfl⟩ q1153 q1154 q120 q1155 rfl (Nat.le_of_ble_eq_true rfl) dX1_apart_72 ?_
        refine x_iload 4 rfl dX1_apart_75 ?_
        obtain ⟨a15, g15, e15, H⟩ := obR H
        refine x_callS (M' := mi_X1_many) (n := 1) (As := [.int x4]) (t_X1_many C _ e15) md_X1_many ⟨Nat.le_of_ble_eq_true rfl, Nat.le_of_ble_eq_true rfl⟩ q1153 q1154 q120 q1155 rfl (Nat.le_of_ble_eq_true rfl) dX1_apart_77 ?_
        refine x_icmp_gt 98 dX1_apart_80 (by decide) (fun c16 => ?_) (fun c16 => ?_)
        · rw [if_pos c16] at H
          exact t_X1_apart_b98 hE ih hk104 _ _ _ _ _ _ _ H
        · rw [if_neg c16] at H
          refine x_aload_n 0 rfl dX1_apart_83 ?_
          refine x_iload_n 1 rfl dX1_apart_84 ?_
          refine x_iload_n 2 rfl dX1_apart_85 ?_
          refine x_iload 5 rfl dX1_apart_86 ?_
          obtain ⟨c17, H⟩ := oit H
          obtain ⟨a17, g17, e17, H⟩ := obR H
          refine x_callV (M' := mi_X1_comesTo) (n := 3) (As := [.int x1, .int x2, .int x5]) (t_X1_comesTo C _ e17) c17 rfl rfl md_X1_comesTo ⟨Nat.le_of_ble_eq_true rfl, Nat.le_of_ble_eq_true rfl⟩ q1454 q1456 qs35 q120 q1457 rfl (Nat.le_of_ble_eq_true rfl) dX1_apart_88 ?_
          refine x_if_ne 98 dX1_apart_91 (by decide) (fun c18 => ?_) (fun c18 => ?_)
          · rw [if_neg c18] at H
            exact t_X1_apart_b98 hE ih hk104 _ _ _ _ _ _ _ H
          · rw [if_pos c18] at H
            refine x_iload 5 rfl dX1_apart_94 ?_
            refine x_istore [1, 2, 3, 4, 0, 5] dX1_apart_96 (by decide) rfl ?_
            exact t_X1_apart_b98 hE ih hk104 _ _ _ _ _ _ _ H
def f_X1_apart (r0 : Nat) (x1 : Int32) (x2 : Int32) (h : mH) : Option (Int32 × mH) := if gC h r0 = 0 then bR (f_X1_isPerson r0 x1 h) fun a1 g1 => if a1 = 0 then some ((-1 : Int32), g1) else if gC g1 r0 = 0 then bR (f_X1_isPerson r0 x2 g1) fun a3 g3 => if a3 = 0 then some ((-1 : Int32), g3) else if x1 = x2 then some ((-1 : Int32), g3) else (gFr [0] 4 g3 r0).bind fun v6 => if gC g3 v6 = 2 then bR (f_X3_know v6 x1 x2 g3) fun a7 g7 => if a7 = 0 then if gC g7 r0 = 0 then bR (f_X1_all r0  g7) fun a9 g9 => f_X1_apart_L56 (f_X1_apart_b104) xFu r0 x1 x2 (a9 &&& ((((1 : Int32) <<< (x1 &&& 31)) ||| ((1 : Int32) <<< (x2 &&& 31))) ^^^ (-1 : Int32))) (a9 &&& ((((1 : Int32) <<< (x1 &&& 31)) ||| ((1 : Int32) <<< (x2 &&& 31))) ^^^ (-1 : Int32))) (a9 &&& ((((1 : Int32) <<< (x1 &&& 31)) ||| ((1 : Int32) <<< (x2 &&& 31))) ^^^ (-1 : Int32))) g9 else none else some ((-1 : Int32), g7) else none else none else none
theorem t_X1_apart {G : xG} (C0 : xC) {l : Launch} {r0 : Nat} {x1 : Int32} {x2 : Int32} (h : mH) {o : Int32 × mH} (H : f_X1_apart r0 x1 x2 h = some o) : XR G l mi_X1_apart [.ref r0, .int x1, .int x2] h (some (.int o.1)) o.2 := by
  refine XR.of C0 (by decide) (Nat.le_of_ble_eq_true rfl) (fun C _ _ _ hE => ?_)
  show X G C mi_X1_apart 0 [(0, .ref r0), (1, .int x1), (2, .int x2)] [] h
  unfold f_X1_apart at H
  refine x_aload_n 0 rfl dX1_apart_0 ?_
  refine x_iload_n 1 rfl dX1_apart_1 ?_
  obtain ⟨c1, H⟩ := oit H
  obtain ⟨a1, g1, e1, H⟩ := obR H
  refine x_callV (M' := mi_X1_isPerson) (n := 1) (As := [.int x1]) (t_X1_isPerson C _ e1) c1 rfl rfl md_X1_isPerson ⟨Nat.le_of_ble_eq_true rfl, Nat.le_of_ble_eq_true rfl⟩ q1108 q1110 qs19 q120 q1111 rfl (Nat.le_of_ble_eq_true rfl) dX1_apart_2 ?_
  refine x_if_eq 33 dX1_apart_5 (by decide) (fun c2 => ?_) (fun c2 => ?_)
  · rw [if_pos c2] at H
    refine x_iconst (-1 : Int32) dX1_apart_33 ic_m1 ?_
    obtain rfl := Option.some.inj H
    exact x_iret hE rfl rfl dX1_apart_34
  · rw [if_neg c2] at H
    refine x_aload_n 0 rfl dX1_apart_8 ?_
    refine x_iload_n 2 rfl dX1_apart_9 ?_
    obtain ⟨c3, H⟩ := oit H
    obtain ⟨a3, g3, e3, H⟩ := obR H
    refine x_callV (M' := mi_X1_isPerson) (n := 1) (As := [.int x2]) (t_X1_isPerson C _ e3) c3 rfl rfl md_X1_isPerson ⟨Nat.le_of_ble_eq_true rfl, Nat.le_of_ble_eq_true rfl⟩ q1108 q1110 qs19 q120 q1111 rfl (Nat.le_of_ble_eq_true rfl) dX1_apart_10 ?_
    refine x_if_eq 33 dX1_apart_13 (by decide) (fun c4 => ?_) (fun c4 => ?_)
    · rw [if_pos c4] at H
      refine x_iconst (-1 : Int32) dX1_apart_33 ic_m1 ?_
      obtain rfl := Option.some.inj H
      exact x_iret hE rfl rfl dX1_apart_34
    · rw [if_neg c4] at H
      refine x_iload_n 1 rfl dX1_apart_16 ?_
      refine x_iload_n 2 rfl dX1_apart_17 ?_
      refine x_icmp_eq 33 dX1_apart_18 (by decide) (fun c5 => ?_) (fun c5 => ?_)
      · rw [if_pos c5] at H
        refine x_iconst (-1 : Int32) dX1_apart_33 ic_m1 ?_
        obtain rfl := Option.some.inj H
        exact x_iret hE rfl rfl dX1_apart_34
      · rw [if_neg c5] at H
        refine x_aload_n 0 rfl dX1_apart_21 ?_
        obtain ⟨v6, e6, H⟩ := ob H
        refine x_getf fg_X1_36 (gFr_spec e6) dX1_apart_22 ?_
        refine x_iload_n 1 rfl dX1_apart_25 ?_
        refine x_iload_n 2 rfl dX1_apart_26 ?_
        obtain ⟨c7, H⟩ := oit H
        obtain ⟨a7, g7, e7, H⟩ := obR H
        refine x_callV (M' := mi_X3_know) (n := 2) (As := [.int x1, .int x2]) (t_X3_know C _ e7) c7 rfl rfl md_X3_know ⟨Nat.le_of_ble_eq_true rfl, Nat.le_of_ble_eq_true rfl⟩ q1453 q1236 q1237 q125 q1238 rfl (Nat.le_of_ble_eq_true rfl) dX1_apart_27 ?_
        refine x_if_eq 35 dX1_apart_30 (by decide) (fun c8 => ?_) (fun c8 => ?_)
        · rw [if_pos c8] at H
          refine x_aload_n 0 rfl dX1_apart_35 ?_
          obtain ⟨c9, H⟩ := oit H
          obtain ⟨a9, g9, e9, H⟩ := obR H
          refine x_callV (M' := mi_X1_all) (n := 0) (As := []) (t_X1_all C _ e9) c9 rfl rfl md_X1_all ⟨Nat.le_of_ble_eq_true rfl, Nat.le_of_ble_eq_true rfl⟩ q1440 q1442 qs33 q120 q1443 rfl (Nat.le_of_ble_eq_true rfl) dX1_apart_36 ?_
          refine x_iconst (1 : Int32) dX1_apart_39 ic_1 ?_
          refine x_iload_n 1 rfl dX1_apart_40 ?_
          refine x_ishl dX1_apart_41 ?_
          refine x_iconst (1 : Int32) dX1_apart_42 ic_1 ?_
          refine x_iload_n 2 rfl dX1_apart_43 ?_
          refine x_ishl dX1_apart_44 ?_
          refine x_ior dX1_apart_45 ?_
          refine x_iconst (-1 : Int32) dX1_apart_46 ic_m1 ?_
          refine x_ixor dX1_apart_47 ?_
          refine x_iand dX1_apart_48 ?_
          refine x_istore_n [1, 2, 3, 0] dX1_apart_49 (by decide) rfl ?_
          refine x_iload_n 3 rfl dX1_apart_50 ?_
          refine x_istore [1, 2, 3, 4, 0] dX1_apart_51 (by decide) rfl ?_
          refine x_iload_n 3 rfl dX1_apart_53 ?_
          refine x_istore [1, 2, 3, 4, 5, 0] dX1_apart_54 (by decide) rfl ?_
          exact t_X1_apart_L56 hE (t_X1_apart_b104 hE) xFu _ _ _ _ _ _ _ H
        · rw [if_neg c8] at H
          refine x_iconst (-1 : Int32) dX1_apart_33 ic_m1 ?_
          obtain rfl := Option.some.inj H
          exact x_iret hE rfl rfl dX1_apart_34
abbrev mi_X1_ask : xM := (cX1_ask, yX1_ask, 1, some .int, 1)
theorem md_X1_ask : xMD mi_X1_ask 0 := ⟨by decide, by decide, by decide +kernel⟩
def f_X1_ask (r0 : Nat) (h : mH) : Option (Int32 × mH) := (gFi [0] 12 h r0).bind fun v1 => some (v1, h)
theorem t_X1_ask {G : xG} (C0 : xC) {l : Launch} {r0 : Nat} (h : mH) {o : Int32 × mH} (H : f_X1_ask r0 h = some o) : XR G l mi_X1_ask [.ref r0] h (some (.int o.1)) o.2 := by
  refine XR.of C0 (by decide) (Nat.le_of_ble_eq_true rfl) (fun C _ _ _ hE => ?_)
  show X G C mi_X1_ask 0 [(0, .ref r0)] [] h
  unfold f_X1_ask at H
  refine x_aload_n 0 rfl dX1_ask_0 ?_
  obtain ⟨v1, e1, H⟩ := ob H
  refine x_getf fg_X1_54 (gFi_spec e1) dX1_ask_1 ?_
  obtain rfl := Option.some.inj H
  exact x_iret hE rfl rfl dX1_ask_4
abbrev mi_X1_fed : xM := (cX1_fed, yX1_fed, 4, some .int, 3)
theorem md_X1_fed : xMD mi_X1_fed 1 := ⟨by decide, by decide, by decide +kernel⟩
def f_X1_fed_b26 (kb : Nat → Nat → Int32 → Int32 → mH → Option (Int32 × mH)) (r0 : Nat) (r1 : Nat) (x2 : Int32) (x3 : Int32) (h : mH) : Option (Int32 × mH) := kb r0 r1 x2 (x3 + (1 : Int32)) h
theorem t_X1_fed_b26 {G : xG} {C : xC} {o : Int32 × mH} (hE : xEnd G C (some (.int o.1)) o.2) {kb : Nat → Nat → Int32 → Int32 → mH → Option (Int32 × mH)} (hkb : ∀ (r0 : Nat) (r1 : Nat) (x2 : Int32) (x3 : Int32) (h : mH), kb r0 r1 x2 x3 h = some o → X G C mi_X1_fed 4 [(0, .ref r0), (1, .ref r1), (2, .int x2), (3, .int x3)] [] h) (r0 : Nat) (r1 : Nat) (x2 : Int32) (x3 : Int32) (h : mH) (H : f_X1_fed_b26 kb r0 r1 x2 x3 h = some o) : X G C mi_X1_fed 26 [(0, .ref r0), (1, .ref r1), (2, .int x2), (3, .int x3)] [] h := by
  unfold f_X1_fed_b26 at H
  refine x_iinc 3 (x3 + (1 : Int32)) [1, 2, 3, 0] dX1_fed_26 rfl (ii_1 _) (by decide) rfl ?_
  refine x_goto (tgt := 4) dX1_fed_29 (by decide) ?_
  exact hkb _ _ _ _ _ H
def f_X1_fed_L4 : Nat → Nat → Nat → Int32 → Int32 → mH → Option (Int32 × mH)
  | 0, _, _, _, _, _ => none
  | n + 1, r0, r1, x2, x3, h => if gC h r0 = 0 then bR (f_X1_persons r0  h) fun a1 g1 => if a1 ≤ x3 then some (x2, g1) else if gC g1 r1 = 2 then bR (f_X3_wanted r1 x3 g1) fun a3 g3 => if a3 = 0 then f_X1_fed_b26 (f_X1_fed_L4 n) r0 r1 (x2 ||| ((1 : Int32) <<< (x3 &&& 31))) x3 g3 else f_X1_fed_b26 (f_X1_fed_L4 n) r0 r1 x2 x3 g3 else none else none
theorem t_X1_fed_L4 {G : xG} {C : xC} {o : Int32 × mH} (hE : xEnd G C (some (.int o.1)) o.2) : ∀ (n : Nat) (r0 : Nat) (r1 : Nat) (x2 : Int32) (x3 : Int32) (h : mH), f_X1_fed_L4 n r0 r1 x2 x3 h = some o → X G C mi_X1_fed 4 [(0, .ref r0), (1, .ref r1), (2, .int x2), (3, .int x3)] [] h := by
  intro n
  induction n with
  | zero => intro r0 r1 x2 x3 h H; exact nomatch (show (none : Option (Int32 × mH)) = some o from H)
  | succ n ih =>
    intro r0 r1 x2 x3 h H
    rw [f_X1_fed_L4] at H
    refine x_iload_n 3 rfl dX1_fed_4 ?_
    refine x_aload_n 0 rfl dX1_fed_5 ?_
    obtain ⟨c1, H⟩ := oit H
    obtain ⟨a1, g1, e1, H⟩ := obR H
    refine x_callV (M' := mi_X1_persons) (n := 0) (As := []) (t_X1_persons C _ e1) c1 rfl rfl md_X1_persons ⟨Nat.le_of_ble_eq_true rfl, Nat.le_of_ble_eq_true rfl⟩ q1140 q1142 qs22 q120 q1143 rfl (Nat.le_of_ble_eq_true rfl) dX1_fed_6 ?_
    refine x_icmp_ge 32 dX1_fed_9 (by decide) (fun c2 => ?_) (fun c2 => ?_)
    · rw [if_pos c2] at H
      refine x_iload_n 2 rfl dX1_fed_32 ?_
      obtain rfl := Option.some.inj H
      exact x_iret hE rfl rfl dX1_fed_33
    · rw [if_neg c2] at H
      refine x_aload_n 1 rfl dX1_fed_12 ?_
      refine x_iload_n 3 rfl dX1_fed_13 ?_
      obtain ⟨c3, H⟩ := oit H
      obtain ⟨a3, g3, e3, H⟩ := obR H
      refine x_callV (M' := mi_X3_wanted) (n := 1) (As := [.int x3]) (t_X3_wanted C _ e3) c3 rfl rfl md_X3_wanted ⟨Nat.le_of_ble_eq_true rfl, Nat.le_of_ble_eq_true rfl⟩ q1145 q1146 q1147 q125 q1148 rfl (Nat.le_of_ble_eq_true rfl) dX1_fed_14 ?_
      refine x_if_ne 26 dX1_fed_17 (by decide) (fun c4 => ?_) (fun c4 => ?_)
      · rw [if_neg c4] at H
        exact t_X1_fed_b26 hE ih _ _ _ _ _ H
      · rw [if_pos c4] at H
        refine x_iload_n 2 rfl dX1_fed_20 ?_
        refine x_iconst (1 : Int32) dX1_fed_21 ic_1 ?_
        refine x_iload_n 3 rfl dX1_fed_22 ?_
        refine x_ishl dX1_fed_23 ?_
        refine x_ior dX1_fed_24 ?_
        refine x_istore_n [1, 2, 0, 3] dX1_fed_25 (by decide) rfl ?_
        exact t_X1_fed_b26 hE ih _ _ _ _ _ H
def f_X1_fed (r0 : Nat) (r1 : Nat) (h : mH) : Option (Int32 × mH) := f_X1_fed_L4  xFu r0 r1 (0 : Int32) (0 : Int32) h
theorem t_X1_fed {G : xG} (C0 : xC) {l : Launch} {r0 : Nat} {r1 : Nat} (h : mH) {o : Int32 × mH} (H : f_X1_fed r0 r1 h = some o) : XR G l mi_X1_fed [.ref r0, .ref r1] h (some (.int o.1)) o.2 := by
  refine XR.of C0 (by decide) (Nat.le_of_ble_eq_true rfl) (fun C _ _ _ hE => ?_)
  show X G C mi_X1_fed 0 [(0, .ref r0), (1, .ref r1)] [] h
  unfold f_X1_fed at H
  refine x_iconst (0 : Int32) dX1_fed_0 ic_0 ?_
  refine x_istore_n [1, 2, 0] dX1_fed_1 (by decide) rfl ?_
  refine x_iconst (0 : Int32) dX1_fed_2 ic_0 ?_
  refine x_istore_n [1, 2, 3, 0] dX1_fed_3 (by decide) rfl ?_
  exact t_X1_fed_L4 hE  xFu _ _ _ _ _ H
abbrev mi_X3_copy : xM := (cX3_copy, yX3_copy, 2, none, 2)
theorem md_X3_copy : xMD mi_X3_copy 2 := ⟨by decide, by decide, by decide +kernel⟩
def f_X3_copy (r0 : Nat) (r1 : Nat) (h : mH) : Option (Unit × mH) := (aN h r1).bind fun v1 => (cpA h r0 (0 : Int32) r1 (0 : Int32) v1).bind fun h2 => some ((), h2)
theorem t_X3_copy {G : xG} (C0 : xC) {l : Launch} {r0 : Nat} {r1 : Nat} (h : mH) {o : Unit × mH} (H : f_X3_copy r0 r1 h = some o) : XR G l mi_X3_copy [.ref r0, .ref r1] h none o.2 := by
  refine XR.of C0 (by decide) (Nat.le_of_ble_eq_true rfl) (fun C _ _ _ hE => ?_)
  show X G C mi_X3_copy 0 [(0, .ref r0), (1, .ref r1)] [] h
  unfold f_X3_copy at H
  refine x_aload_n 0 rfl dX3_copy_0 ?_
  refine x_iconst (0 : Int32) dX3_copy_1 ic_0 ?_
  refine x_aload_n 1 rfl dX3_copy_2 ?_
  refine x_iconst (0 : Int32) dX3_copy_3 ic_0 ?_
  refine x_aload_n 1 rfl dX3_copy_4 ?_
  obtain ⟨v1, e1, H⟩ := ob H
  refine x_alen e1 dX3_copy_5 ?_
  obtain ⟨h2, e2, H⟩ := ob H
  refine x_copy q347 q349 q348 q129 e2 (by decide) (Nat.le_of_ble_eq_true rfl) dX3_copy_6 ?_
  obtain rfl := Option.some.inj H
  exact x_vret hE rfl dX3_copy_9
abbrev mi_X3_as : xM := (cX3_as, yX3_as, 2, some (.object "StrangerMarket$Market"), 3)
theorem md_X3_as : xMD mi_X3_as 1 := ⟨by decide, by decide, by decide +kernel⟩
def f_X3_as (r0 : Nat) (r1 : Nat) (h : mH) : Option (Nat × mH) := (gFr [2] 0 h r1).bind fun v1 => (pF [2] 0 (.ref v1) h r0).bind fun h2 => (gFi [2] 1 h2 r1).bind fun v3 => (pF [2] 1 (.int v3) h2 r0).bind fun h4 => (gFi [2] 2 h4 r1).bind fun v5 => (pF [2] 2 (.int v5) h4 r0).bind fun h6 => (gFi [2] 3 h6 r1).bind fun v7 => (pF [2] 3 (.int v7) h6 r0).bind fun h8 => (gFi [2] 4 h8 r1).bind fun v9 => (pF [2] 4 (.int v9) h8 r0).bind fun h10 => (gFi [2] 5 h10 r1).bind fun v11 => (pF [2] 5 (.int v11) h10 r0).bind fun h12 => (gFr [2] 6 h12 r1).bind fun v13 => (gFr [2] 6 h12 r0).bind fun v14 => bR (f_X3_copy v13 v14 h12) fun a15 g15 => (gFr [2] 7 g15 r1).bind fun v16 => (gFr [2] 7 g15 r0).bind fun v17 => bR (f_X3_copy v16 v17 g15) fun a18 g18 => (gFr [2] 8 g18 r1).bind fun v19 => (gFr [2] 8 g18 r0).bind fun v20 => bR (f_X3_copy v19 v20 g18) fun a21 g21 => (gFr [2] 9 g21 r1).bind fun v22 => (gFr [2] 9 g21 r0).bind fun v23 => bR (f_X3_copy v22 v23 g21) fun a24 g24 => (gFr [2] 10 g24 r1).bind fun v25 => (gFr [2] 10 g24 r0).bind fun v26 => bR (f_X3_copy v25 v26 g24) fun a27 g27 => (gFr [2] 11 g27 r1).bind fun v28 => (gFr [2] 11 g27 r0).bind fun v29 => bR (f_X3_copy v28 v29 g27) fun a30 g30 => some (r0, g30)
theorem t_X3_as {G : xG} (C0 : xC) {l : Launch} {r0 : Nat} {r1 : Nat} (h : mH) {o : Nat × mH} (H : f_X3_as r0 r1 h = some o) : XR G l mi_X3_as [.ref r0, .ref r1] h (some (.ref o.1)) o.2 := by
  refine XR.of C0 (by decide) (Nat.le_of_ble_eq_true rfl) (fun C _ _ _ hE => ?_)
  show X G C mi_X3_as 0 [(0, .ref r0), (1, .ref r1)] [] h
  unfold f_X3_as at H
  refine x_aload_n 0 rfl dX3_as_0 ?_
  refine x_aload_n 1 rfl dX3_as_1 ?_
  obtain ⟨v1, e1, H⟩ := ob H
  refine x_getf fg_X3_30 (gFr_spec e1) dX3_as_2 ?_
  obtain ⟨h2, e2, H⟩ := ob H
  refine x_putf (fp_X3_30 _) rfl rfl e2 dX3_as_5 ?_
  refine x_aload_n 0 rfl dX3_as_8 ?_
  refine x_aload_n 1 rfl dX3_as_9 ?_
  obtain ⟨v3, e3, H⟩ := ob H
  refine x_getf fg_X3_34 (gFi_spec e3) dX3_as_10 ?_
  obtain ⟨h4, e4, H⟩ := ob H
  refine x_putf (fp_X3_34 _) rfl rfl e4 dX3_as_13 ?_
  refine x_aload_n 0 rfl dX3_as_16 ?_
  refine x_aload_n 1 rfl dX3_as_17 ?_
  obtain ⟨v5, e5, H⟩ := ob H
  refine x_getf fg_X3_38 (gFi_spec e5) dX3_as_18 ?_
  obtain ⟨h6, e6, H⟩ := ob H
  refine x_putf (fp_X3_38 _) rfl rfl e6 dX3_as_21 ?_
  refine x_aload_n 0 rfl dX3_as_24 ?_
  refine x_aload_n 1 rfl dX3_as_25 ?_
  obtain ⟨v7, e7, H⟩ := ob H
  refine x_getf fg_X3_65 (gFi_spec e7) dX3_as_26 ?_
  obtain ⟨h8, e8, H⟩ := ob H
  refine x_putf (fp_X3_65 _) rfl rfl e8 dX3_as_29 ?_
  refine x_aload_n 0 rfl dX3_as_32 ?_
  refine x_aload_n 1 rfl dX3_as_33 ?_
  obtain ⟨v9, e9, H⟩ := ob H
  refine x_getf fg_X3_68 (gFi_spec e9) dX3_as_34 ?_
  obtain ⟨h10, e10, H⟩ := ob H
  refine x_putf (fp_X3_68 _) rfl rfl e10 dX3_as_37 ?_
  refine x_aload_n 0 rfl dX3_as_40 ?_
  refine x_aload_n 1 rfl dX3_as_41 ?_
  obtain ⟨v11, e11, H⟩ := ob H
  refine x_getf fg_X3_71 (gFi_spec e11) dX3_as_42 ?_
  obtain ⟨h12, e12, H⟩ := ob H
  refine x_putf (fp_X3_71 _) rfl rfl e12 dX3_as_45 ?_
  refine x_aload_n 1 rfl dX3_as_48 ?_
  obtain ⟨v13, e13, H⟩ := ob H
  refine x_getf fg_X3_9 (gFr_spec e13) dX3_as_49 ?_
  refine x_aload_n 0 rfl dX3_as_52 ?_
  obtain ⟨v14, e14, H⟩ := ob H
  refine x_getf fg_X3_9 (gFr_spec e14) dX3_as_53 ?_
  obtain ⟨a15, g15, e15, H⟩ := obR H
  refine x_callS (M' := mi_X3_copy) (n := 2) (As := [.ref v13, .ref v14]) (t_X3_copy C _ e15) md_X3_copy ⟨Nat.le_of_ble_eq_true rfl, Nat.le_of_ble_eq_true rfl⟩ q1213 q1214 q125 q1215 rfl (Nat.le_of_ble_eq_true rfl) dX3_as_56 ?_
  refine x_aload_n 1 rfl dX3_as_59 ?_
  obtain ⟨v16, e16, H⟩ := ob H
  refine x_getf fg_X3_15 (gFr_spec e16) dX3_as_60 ?_
  refine x_aload_n 0 rfl dX3_as_63 ?_
  obtain ⟨v17, e17, H⟩ := ob H
  refine x_getf fg_X3_15 (gFr_spec e17) dX3_as_64 ?_
  obtain ⟨a18, g18, e18, H⟩ := obR H
  refine x_callS (M' := mi_X3_copy) (n := 2) (As := [.ref v16, .ref v17]) (t_X3_copy C _ e18) md_X3_copy ⟨Nat.le_of_ble_eq_true rfl, Nat.le_of_ble_eq_true rfl⟩ q1213 q1214 q125 q1215 rfl (Nat.le_of_ble_eq_true rfl) dX3_as_67 ?_
  refine x_aload_n 1 rfl dX3_as_70 ?_
  obtain ⟨v19, e19, H⟩ := ob H
  refine x_getf fg_X3_18 (gFr_spec e19) dX3_as_71 ?_
  refine x_aload_n 0 rfl dX3_as_74 ?_
  obtain ⟨v20, e20, H⟩ := ob H
  refine x_getf fg_X3_18 (gFr_spec e20) dX3_as_75 ?_
  obtain ⟨a21, g21, e21, H⟩ := obR H
  refine x_callS (M' := mi_X3_copy) (n := 2) (As := [.ref v19, .ref v20]) (t_X3_copy C _ e21) md_X3_copy ⟨Nat.le_of_ble_eq_true rfl, Nat.le_of_ble_eq_true rfl⟩ q1213 q1214 q125 q1215 rfl (Nat.le_of_ble_eq_true rfl) dX3_as_78 ?_
  refine x_aload_n 1 rfl dX3_as_81 ?_
  obtain ⟨v22, e22, H⟩ := ob H
  refine x_getf fg_X3_21 (gFr_spec e22) dX3_as_82 ?_
  refine x_aload_n 0 rfl dX3_as_85 ?_
  obtain ⟨v23, e23, H⟩ := ob H
  refine x_getf fg_X3_21 (gFr_spec e23) dX3_as_86 ?_
  obtain ⟨a24, g24, e24, H⟩ := obR H
  refine x_callS (M' := mi_X3_copy) (n := 2) (As := [.ref v22, .ref v23]) (t_X3_copy C _ e24) md_X3_copy ⟨Nat.le_of_ble_eq_true rfl, Nat.le_of_ble_eq_true rfl⟩ q1213 q1214 q125 q1215 rfl (Nat.le_of_ble_eq_true rfl) dX3_as_89 ?_
  refine x_aload_n 1 rfl dX3_as_92 ?_
  obtain ⟨v25, e25, H⟩ := ob H
  refine x_getf fg_X3_24 (gFr_spec e25) dX3_as_93 ?_
  refine x_aload_n 0 rfl dX3_as_96 ?_
  obtain ⟨v26, e26, H⟩ := ob H
  refine x_getf fg_X3_24 (gFr_spec e26) dX3_as_97 ?_
  obtain ⟨a27, g27, e27, H⟩ := obR H
  refine x_callS (M' := mi_X3_copy) (n := 2) (As := [.ref v25, .ref v26]) (t_X3_copy C _ e27) md_X3_copy ⟨Nat.le_of_ble_eq_true rfl, Nat.le_of_ble_eq_true rfl⟩ q1213 q1214 q125 q1215 rfl (Nat.le_of_ble_eq_true rfl) dX3_as_100 ?_
  refine x_aload_n 1 rfl dX3_as_103 ?_
  obtain ⟨v28, e28, H⟩ := ob H
  refine x_getf fg_X3_27 (gFr_spec e28) dX3_as_104 ?_
  refine x_aload_n 0 rfl dX3_as_107 ?_
  obtain ⟨v29, e29, H⟩ := ob H
  refine x_getf fg_X3_27 (gFr_spec e29) dX3_as_108 ?_
  obtain ⟨a30, g30, e30, H⟩ := obR H
  refine x_callS (M' := mi_X3_copy) (n := 2) (As := [.ref v28, .ref v29]) (t_X3_copy C _ e30) md_X3_copy ⟨Nat.le_of_ble_eq_true rfl, Nat.le_of_ble_eq_true rfl⟩ q1213 q1214 q125 q1215 rfl (Nat.le_of_ble_eq_true rfl) dX3_as_111 ?_
  refine x_aload_n 0 rfl dX3_as_114 ?_
  obtain rfl := Option.some.inj H
  exact x_aret hE rfl (by first | exact Or.inl ⟨_, rfl⟩ | exact Or.inr ⟨_, rfl⟩) dX3_as_115
abbrev mi_X1_snap : xM := (cX1_snap, yX1_snap, 3, none, 4)
theorem md_X1_snap : xMD mi_X1_snap 0 := ⟨by decide, by decide, by decide +kernel⟩
def f_X1_snap_b62 (r0 : Nat) (h : mH) : Option (Unit × mH) := (gFr [0] 7 h r0).bind fun v3 => (gFi [0] 8 h r0).bind fun v4 => (aR h v3 v4).bind fun v5 => (gFr [0] 4 h r0).bind fun v6 => if gC h v5 = 2 then bR (f_X3_as v5 v6 h) fun a7 g7 => (gFi [0] 8 g7 r0).bind fun v8 => (pF [0] 8 (.int (v8 + (1 : Int32))) g7 r0).bind fun h9 => some ((), h9) else none
theorem t_X1_snap_b62 {G : xG} {C : xC} {o : Unit × mH} (hE : xEnd G C none o.2) (r0 : Nat) (h : mH) (H : f_X1_snap_b62 r0 h = some o) : X G C mi_X1_snap 62 [(0, .ref r0)] [] h := by
  unfold f_X1_snap_b62 at H
  refine x_aload_n 0 rfl dX1_snap_62 ?_
  obtain ⟨v3, e3, H⟩ := ob H
  refine x_getf fg_X1_43 (gFr_spec e3) dX1_snap_63 ?_
  refine x_aload_n 0 rfl dX1_snap_66 ?_
  obtain ⟨v4, e4, H⟩ := ob H
  refine x_getf fg_X1_113 (gFi_spec e4) dX1_snap_67 ?_
  obtain ⟨v5, e5, H⟩ := ob H
  refine x_aald e5 dX1_snap_70 ?_
  refine x_aload_n 0 rfl dX1_snap_71 ?_
  obtain ⟨v6, e6, H⟩ := ob H
  refine x_getf fg_X1_36 (gFr_spec e6) dX1_snap_72 ?_
  obtain ⟨c7, H⟩ := oit H
  obtain ⟨a7, g7, e7, H⟩ := obR H
  refine x_callV (M' := mi_X3_as) (n := 1) (As := [.ref v6]) (t_X3_as C _ e7) c7 rfl rfl md_X3_as ⟨Nat.le_of_ble_eq_true rfl, Nat.le_of_ble_eq_true rfl⟩ q1209 q1210 q1211 q125 q1212 rfl (Nat.le_of_ble_eq_true rfl) dX1_snap_75 ?_
  refine x_pop dX1_snap_78 rfl ?_
  refine x_aload_n 0 rfl dX1_snap_79 ?_
  refine x_dup dX1_snap_80 rfl ?_
  obtain ⟨v8, e8, H⟩ := ob H
  refine x_getf fg_X1_113 (gFi_spec e8) dX1_snap_81 ?_
  refine x_iconst (1 : Int32) dX1_snap_84 ic_1 ?_
  refine x_iadd dX1_snap_85 ?_
  obtain ⟨h9, e9, H⟩ := ob H
  refine x_putf (fp_X1_113 _) rfl rfl e9 dX1_snap_86 ?_
  obtain rfl := Option.some.inj H
  exact x_vret hE rfl dX1_snap_89
def f_X1_snap_b44 (r0 : Nat) (r1 : Nat) (h : mH) : Option (Unit × mH) := (gFr [0] 7 h r0).bind fun v12 => (sR "StrangerMarket$Market" [2] h v12 (7 : Int32) r1).bind fun h13 => (gFi [0] 8 h13 r0).bind fun v14 => (pF [0] 8 (.int (v14 - (1 : Int32))) h13 r0).bind fun h15 => f_X1_snap_b62 r0 h15
theorem t_X1_snap_b44 {G : xG} {C : xC} {o : Unit × mH} (hE : xEnd G C none o.2) (r0 : Nat) (r1 : Nat) (h : mH) (H : f_X1_snap_b44 r0 r1 h = some o) : X G C mi_X1_snap 44 [(0, .ref r0), (1, .ref r1)] [] h := by
  unfold f_X1_snap_b44 at H
  refine x_aload_n 0 rfl dX1_snap_44 ?_
  obtain ⟨v12, e12, H⟩ := ob H
  refine x_getf fg_X1_43 (gFr_spec e12) dX1_snap_45 ?_
  refine x_bipush (7 : Int32) dX1_snap_48 bi_7 ?_
  refine x_aload_n 1 rfl dX1_snap_50 ?_
  obtain ⟨h13, e13, H⟩ := ob H
  refine x_aast (by decide) cs_StrangerMarket_Market e13 dX1_snap_51 ?_
  refine x_aload_n 0 rfl dX1_snap_52 ?_
  refine x_dup dX1_snap_53 rfl ?_
  obtain ⟨v14, e14, H⟩ := ob H
  refine x_getf fg_X1_113 (gFi_spec e14) dX1_snap_54 ?_
  refine x_iconst (1 : Int32) dX1_snap_57 ic_1 ?_
  refine x_isub dX1_snap_58 ?_
  obtain ⟨h15, e15, H⟩ := ob H
  refine x_putf (fp_X1_113 _) rfl rfl e15 dX1_snap_59 ?_
  refine X.sub [0] rfl ?_
  exact t_X1_snap_b62 hE _ _ H
def f_X1_snap_L18 (k44 : Nat → Nat → mH → Option (Unit × mH)) : Nat → Nat → Nat → Int32 → mH → Option (Unit × mH)
  | 0, _, _, _, _ => none
  | n + 1, r0, r1, x2, h => if (8 : Int32) ≤ x2 then k44 r0 r1 h else (gFr [0] 7 h r0).bind fun v17 => (gFr [0] 7 h r0).bind fun v18 => (aR h v18 x2).bind fun v19 => (sR "StrangerMarket$Market" [2] h v17 (x2 - (1 : Int32)) v19).bind fun h20 => (f_X1_snap_L18 k44 n) r0 r1 (x2 + (1 : Int32)) h20
theorem t_X1_snap_L18 {G : xG} {C : xC} {o : Unit × mH} (hE : xEnd G C none o.2) {k44 : Nat → Nat → mH → Option (Unit × mH)} (hk44 : ∀ (r0 : Nat) (r1 : Nat) (h : mH), k44 r0 r1 h = some o → X G C mi_X1_snap 44 [(0, .ref r0), (1, .ref r1)] [] h) : ∀ (n : Nat) (r0 : Nat) (r1 : Nat) (x2 : Int32) (h : mH), f_X1_snap_L18 k44 n r0 r1 x2 h = some o → X G C mi_X1_snap 18 [(0, .ref r0), (1, .ref r1), (2, .int x2)] [] h := by
  intro n
  induction n with
  | zero => intro r0 r1 x2 h H; exact nomatch (show (none : Option (Unit × mH)) = some o from H)
  | succ n ih =>
    intro r0 r1 x2 h H
    rw [f_X1_snap_L18] at H
    refine x_iload_n 2 rfl dX1_snap_18 ?_
    refine x_bipush (8 : Int32) dX1_snap_19 bi_8 ?_
    refine x_icmp_ge 44 dX1_snap_21 (by decide) (fun c16 => ?_) (fun c16 => ?_)
    · rw [if_pos c16] at H
      refine X.sub [0, 1] rfl ?_
      exact hk44 _ _ _ H
    · rw [if_neg c16] at H
      refine x_aload_n 0 rfl dX1_snap_24 ?_
      obtain ⟨v17, e17, H⟩ := ob H
      refine x_getf fg_X1_43 (gFr_spec e17) dX1_snap_25 ?_
      refine x_iload_n 2 rfl dX1_snap_28 ?_
      refine x_iconst (1 : Int32) dX1_snap_29 ic_1 ?_
      refine x_isub dX1_snap_30 ?_
      refine x_aload_n 0 rfl dX1_snap_31 ?_
      obtain ⟨v18, e18, H⟩ := ob H
      refine x_getf fg_X1_43 (gFr_spec e18) dX1_snap_32 ?_
      refine x_iload_n 2 rfl dX1_snap_35 ?_
      obtain ⟨v19, e19, H⟩ := ob H
      refine x_aald e19 dX1_snap_36 ?_
      obtain ⟨h20, e20, H⟩ := ob H
      refine x_aast (by decide) cs_StrangerMarket_Market e20 dX1_snap_37 ?_
      refine x_iinc 2 (x2 + (1 : Int32)) [1, 2, 0] dX1_snap_38 rfl (ii_1 _) (by decide) rfl ?_
      refine x_goto (tgt := 18) dX1_snap_41 (by decide) ?_
      exact ih _ _ _ _ H
def f_X1_snap (r0 : Nat) (h : mH) : Option (Unit × mH) := (gFi [0] 8 h r0).bind fun v1 => if v1 = (8 : Int32) then (gFr [0] 7 h r0).bind fun v10 => (aR h v10 (0 : Int32)).bind fun v11 => f_X1_snap_L18 (f_X1_snap_b44) xFu r0 v11 (1 : Int32) h else f_X1_snap_b62 r0 h
theorem t_X1_snap {G : xG} (C0 : xC) {l : Launch} {r0 : Nat} (h : mH) {o : Unit × mH} (H : f_X1_snap r0 h = some o) : XR G l mi_X1_snap [.ref r0] h none o.2 := by
  refine XR.of C0 (by decide) (Nat.le_of_ble_eq_true rfl) (fun C _ _ _ hE => ?_)
  show X G C mi_X1_snap 0 [(0, .ref r0)] [] h
  unfold f_X1_snap at H
  refine x_aload_n 0 rfl dX1_snap_0 ?_
  obtain ⟨v1, e1, H⟩ := ob H
  refine x_getf fg_X1_113 (gFi_spec e1) dX1_snap_1 ?_
  refine x_bipush (8 : Int32) dX1_snap_4 bi_8 ?_
  refine x_icmp_ne 62 dX1_snap_6 (by decide) (fun c2 => ?_) (fun c2 => ?_)
  · rw [if_neg c2] at H
    exact t_X1_snap_b62 hE _ _ H
  · rw [if_pos c2] at H
    refine x_aload_n 0 rfl dX1_snap_9 ?_
    obtain ⟨v10, e10, H⟩ := ob H
    refine x_getf fg_X1_43 (gFr_spec e10) dX1_snap_10 ?_
    refine x_iconst (0 : Int32) dX1_snap_13 ic_0 ?_
    obtain ⟨v11, e11, H⟩ := ob H
    refine x_aald e11 dX1_snap_14 ?_
    refine x_astore_n [1, 0] dX1_snap_15 (by decide) rfl ?_
    refine x_iconst (1 : Int32) dX1_snap_16 ic_1 ?_
    refine x_istore_n [1, 2, 0] dX1_snap_17 (by decide) rfl ?_
    exact t_X1_snap_L18 hE (t_X1_snap_b44 hE) xFu _ _ _ _ H
def fd_X11_does (r0 : Nat) (r1 : Nat) (h : mH) : Option (Int32 × mH) := if gC h r0 = 11 then f_X13_does r0 r1 h else if gC h r0 = 12 then f_X14_does r0 r1 h else if gC h r0 = 13 then f_X15_does r0 r1 h else if gC h r0 = 14 then f_X16_does r0 r1 h else if gC h r0 = 15 then f_X18_does r0 r1 h else none
abbrev mi_X1_lived : xM := (cX1_lived, yX1_lived, 5, some .int, 10)
theorem md_X1_lived : xMD mi_X1_lived 2 := ⟨by decide, by decide, by decide +kernel⟩
def f_X1_lived_b124 (x3 : Int32) (x4 : Int32) (h : mH) : Option (Int32 × mH) := if x3 = 0 then some ((-1 : Int32), h) else some (x4, h)
theorem t_X1_lived_b124 {G : xG} {C : xC} {o : Int32 × mH} (hE : xEnd G C (some (.int o.1)) o.2) (x3 : Int32) (x4 : Int32) (h : mH) (H : f_X1_lived_b124 x3 x4 h = some o) : X G C mi_X1_lived 124 [(3, .int x3), (4, .int x4)] [] h := by
  unfold f_X1_lived_b124 at H
  refine x_iload_n 0 rfl dX1_lived_124 ?_
  refine x_if_ne 132 dX1_lived_125 (by decide) (fun c17 => ?_) (fun c17 => ?_)
  · rw [if_neg c17] at H
    refine x_iload 1 rfl dX1_lived_132 ?_
    obtain rfl := Option.some.inj H
    exact x_iret hE rfl rfl dX1_lived_134
  · rw [if_pos c17] at H
    refine x_iconst (-1 : Int32) dX1_lived_128 ic_m1 ?_
    refine x_goto (tgt := 134) dX1_lived_129 (by decide) ?_
    obtain rfl := Option.some.inj H
    exact x_iret hE rfl rfl dX1_lived_134
def f_X1_lived_b57 (r0 : Nat) (x2 : Int32) (x3 : Int32) (x4 : Int32) (h : mH) : Option (Int32 × mH) := (gFr [0] 19 h r0).bind fun v4 => (sI .int h v4 (0 : Int32) x3).bind fun h5 => (gFr [0] 19 h5 r0).bind fun v6 => (sI .int h5 v6 (1 : Int32) x4).bind fun h7 => (gFr [0] 19 h7 r0).bind fun v8 => (gFr [0] 5 h7 r0).bind fun v9 => (gFi [2] 1 h7 v9).bind fun v10 => (sI .int h7 v8 (2 : Int32) v10).bind fun h11 => (gFr [0] 19 h11 r0).bind fun v12 => (gFr [0] 5 h11 r0).bind fun v13 => if gC h11 r0 = 0 then bR (f_X1_fed r0 v13 h11) fun a14 g14 => (sI .int g14 v12 (3 : Int32) a14).bind fun h15 => if x2 = 0 then f_X1_lived_b124 x3 x4 h15 else if x4 ≤ 0 then f_X1_lived_b124 x3 x4 h15 else if gC h15 r0 = 0 then bR (f_X1_snap r0  h15) fun a19 g19 => (gFr [0] 4 g19 r0).bind fun v20 => (gFr [0] 5 g19 r0).bind fun v21 => if gC g19 v20 = 2 then bR (f_X3_as v20 v21 g19) fun a22 g22 => f_X1_lived_b124 x3 x4 g22 else none else none else none
theorem t_X1_lived_b57 {G : xG} {C : xC} {o : Int32 × mH} (hE : xEnd G C (some (.int o.1)) o.2) (r0 : Nat) (x2 : Int32) (x3 : Int32) (x4 : Int32) (h : mH) (H : f_X1_lived_b57 r0 x2 x3 x4 h = some o) : X G C mi_X1_lived 57 [(0, .ref r0), (2, .int x2), (3, .int x3), (4, .int x4)] [] h := by
  unfold f_X1_lived_b57 at H
  refine x_aload_n 0 rfl dX1_lived_57 ?_
  obtain ⟨v4, e4, H⟩ := ob H
  refine x_getf fg_X1_76 (gFr_spec e4) dX1_lived_58 ?_
  refine x_iconst (0 : Int32) dX1_lived_61 ic_0 ?_
  refine x_iload_n 2 rfl dX1_lived_62 ?_
  obtain ⟨h5, e5, H⟩ := ob H
  refine x_iast e5 dX1_lived_63 ?_
  refine x_aload_n 0 rfl dX1_lived_64 ?_
  obtain ⟨v6, e6, H⟩ := ob H
  refine x_getf fg_X1_76 (gFr_spec e6) dX1_lived_65 ?_
  refine x_iconst (1 : Int32) dX1_lived_68 ic_1 ?_
  refine x_iload 3 rfl dX1_lived_69 ?_
  obtain ⟨h7, e7, H⟩ := ob H
  refine x_iast e7 dX1_lived_71 ?_
  refine x_aload_n 0 rfl dX1_lived_72 ?_
  obtain ⟨v8, e8, H⟩ := ob H
  refine x_getf fg_X1_76 (gFr_spec e8) dX1_lived_73 ?_
  refine x_iconst (2 : Int32) dX1_lived_76 ic_2 ?_
  refine x_aload_n 0 rfl dX1_lived_77 ?_
  obtain ⟨v9, e9, H⟩ := ob H
  refine x_getf fg_X1_40 (gFr_spec e9) dX1_lived_78 ?_
  obtain ⟨v10, e10, H⟩ := ob H
  refine x_getf fg_X1_197 (gFi_spec e10) dX1_lived_81 ?_
  obtain ⟨h11, e11, H⟩ := ob H
  refine x_iast e11 dX1_lived_84 ?_
  refine x_aload_n 0 rfl dX1_lived_85 ?_
  obtain ⟨v12, e12, H⟩ := ob H
  refine x_getf fg_X1_76 (gFr_spec e12) dX1_lived_86 ?_
  refine x_iconst (3 : Int32) dX1_lived_89 ic_3 ?_
  refine x_aload_n 0 rfl dX1_lived_90 ?_
  refine x_aload_n 0 rfl dX1_lived_91 ?_
  obtain ⟨v13, e13, H⟩ := ob H
  refine x_getf fg_X1_40 (gFr_spec e13) dX1_lived_92 ?_
  obtain ⟨c14, H⟩ := oit H
  obtain ⟨a14, g14, e14, H⟩ := obR H
  refine x_callV (M' := mi_X1_fed) (n := 1) (As := [.ref v13]) (t_X1_fed C _ e14) c14 rfl rfl md_X1_fed ⟨Nat.le_of_ble_eq_true rfl, Nat.le_of_ble_eq_true rfl⟩ q1136 q1138 qs21 q120 q1139 rfl (Nat.le_of_ble_eq_true rfl) dX1_lived_95 ?_
  obtain ⟨h15, e15, H⟩ := ob H
  refine x_iast e15 dX1_lived_98 ?_
  refine x_iload_n 1 rfl dX1_lived_99 ?_
  refine x_if_eq 124 dX1_lived_100 (by decide) (fun c16 => ?_) (fun c16 => ?_)
  · rw [if_pos c16] at H
    refine X.sub [2, 3] rfl ?_
    exact t_X1_lived_b124 hE _ _ _ H
  · rw [if_neg c16] at H
    refine x_iload 3 rfl dX1_lived_103 ?_
    refine x_if_le 124 dX1_lived_105 (by decide) (fun c18 => ?_) (fun c18 => ?_)
    · rw [if_pos c18] at H
      refine X.sub [2, 3] rfl ?_
      exact t_X1_lived_b124 hE _ _ _ H
    · rw [if_neg c18] at H
      refine x_aload_n 0 rfl dX1_lived_108 ?_
      obtain ⟨c19, H⟩ := oit H
      obtain ⟨a19, g19, e19, H⟩ := obR H
      refine x_callV (M' := mi_X1_snap) (n := 0) (As := []) (t_X1_snap C _ e19) c19 rfl rfl md_X1_snap ⟨Nat.le_of_ble_eq_true rfl, Nat.le_of_ble_eq_true rfl⟩ q1314 q1316 qs25 q120 q1317 rfl (Nat.le_of_ble_eq_true rfl) dX1_lived_109 ?_
      refine x_aload_n 0 rfl dX1_lived_112 ?_
      obtain ⟨v20, e20, H⟩ := ob H
      refine x_getf fg_X1_36 (gFr_spec e20) dX1_lived_113 ?_
      refine x_aload_n 0 rfl dX1_lived_116 ?_
      obtain ⟨v21, e21, H⟩ := ob H
      refine x_getf fg_X1_40 (gFr_spec e21) dX1_lived_117 ?_
      obtain ⟨c22, H⟩ := oit H
      obtain ⟨a22, g22, e22, H⟩ := obR H
      refine x_callV (M' := mi_X3_as) (n := 1) (As := [.ref v21]) (t_X3_as C _ e22) c22 rfl rfl md_X3_as ⟨Nat.le_of_ble_eq_true rfl, Nat.le_of_ble_eq_true rfl⟩ q1209 q1210 q1211 q125 q1212 rfl (Nat.le_of_ble_eq_true rfl) dX1_lived_120 ?_
      refine x_pop dX1_lived_123 rfl ?_
      refine X.sub [2, 3] rfl ?_
      exact t_X1_lived_b124 hE _ _ _ H
def f_X1_lived_L17 (k57 : Nat → Int32 → Int32 → Int32 → mH → Option (Int32 × mH)) : Nat → Nat → Nat → Int32 → Int32 → Int32 → mH → Option (Int32 × mH)
  | 0, _, _, _, _, _, _ => none
  | n + 1, r0, r1, x2, x3, x4, h => if gC h r1 = 21 then bR (f_J2_size r1  h) fun a23 g23 => if a23 ≤ x4 then k57 r0 x2 x3 x4 g23 else if x3 = 0 then if gC g23 r1 = 21 then bR (f_J2_get r1 x4 g23) fun a26 g26 => if a26 = 0 ∨ gC g26 a26 ∈ [11, 12, 13, 14, 15] then (gFr [0] 5 g26 r0).bind fun v28 => bR (fd_X11_does a26 v28 g26) fun a29 g29 => if a29 = 0 then (f_X1_lived_L17 k57 n) r0 r1 x2 a29 (x4 + (1 : Int32)) g29 else (f_X1_lived_L17 k57 n) r0 r1 x2 a29 x4 g29 else none else none else k57 r0 x2 x3 x4 g23 else none
theorem t_X1_lived_L17 {G : xG} {C : xC} {o : Int32 × mH} (hE : xEnd G C (some (.int o.1)) o.2) {k57 : Nat → Int32 → Int32 → Int32 → mH → Option (Int32 × mH)} (hk57 : ∀ (r0 : Nat) (x2 : Int32) (x3 : Int32) (x4 : Int32) (h : mH), k57 r0 x2 x3 x4 h = some o → X G C mi_X1_lived 57 [(0, .ref r0), (2, .int x2), (3, .int x3), (4, .int x4)] [] h) : ∀ (n : Nat) (r0 : Nat) (r1 : Nat) (x2 : Int32) (x3 : Int32) (x4 : Int32) (h : mH), f_X1_lived_L17 k57 n r0 r1 x2 x3 x4 h = some o → X G C mi_X1_lived 17 [(0, .ref r0), (1, .ref r1), (2, .int x2), (3, .int x3), (4, .int x4)] [] h := by
  intro n
  induction n with
  | zero => intro r0 r1 x2 x3 x4 h H; exact nomatch (show (none : Option (Int32 × mH)) = some o from H)
  | succ n ih =>
    intro r0 r1 x2 x3 x4 h H
    rw [f_X1_lived_L17] at H
    refine x_iload 4 rfl dX1_lived_17 ?_
    refine x_aload_n 1 rfl dX1_lived_19 ?_
    obtain ⟨c23, H⟩ := oit H
    obtain ⟨a23, g23, e23, H⟩ := obR H
    refine x_callV (M' := mi_J2_size) (n := 0) (As := []) (t_J2_size C _ e23) c23 rfl rfl md_J2_size ⟨Nat.le_of_ble_eq_true rfl, Nat.le_of_ble_eq_true rfl⟩ q1144 q317 q318 q124 q319 rfl (Nat.le_of_ble_eq_true rfl) dX1_lived_20 ?_
    refine x_icmp_ge 57 dX1_lived_23 (by decide) (fun c24 => ?_) (fun c24 => ?_)
    · rw [if_pos c24] at H
      refine X.sub [0, 2, 3, 4] rfl ?_
      exact hk57 _ _ _ _ _ H
    · rw [if_neg c24] at H
      refine x_iload_n 3 rfl dX1_lived_26 ?_
      refine x_if_ne 57 dX1_lived_27 (by decide) (fun c25 => ?_) (fun c25 => ?_)
      · rw [if_neg c25] at H
        refine X.sub [0, 2, 3, 4] rfl ?_
        exact hk57 _ _ _ _ _ H
      · rw [if_pos c25] at H
        refine x_aload_n 1 rfl dX1_lived_30 ?_
        refine x_iload 4 rfl dX1_lived_31 ?_
        obtain ⟨c26, H⟩ := oit H
        obtain ⟨a26, g26, e26, H⟩ := obR H
        refine x_callV (M' := mi_J2_get) (n := 1) (As := [.int x4]) (t_J2_get C _ e26) c26 rfl rfl md_J2_get ⟨Nat.le_of_ble_eq_true rfl, Nat.le_of_ble_eq_true rfl⟩ q1633 q325 q326 q124 q327 rfl (Nat.le_of_ble_eq_true rfl) dX1_lived_33 ?_
        obtain ⟨c27, H⟩ := oit H
        refine x_cast cs_StrangerMarket_Act q1634 c27 dX1_lived_36 ?_
        refine x_aload_n 0 rfl dX1_lived_39 ?_
        obtain ⟨v28, e28, H⟩ := ob H
        refine x_getf fg_X1_40 (gFr_spec e28) dX1_lived_40 ?_
        obtain ⟨a29, g29, e29, H⟩ := obR H
        suffices kk : X G C mi_X1_lived 46 [(0, .ref r0), (1, .ref r1), (2, .int x2), (3, .int x3), (4, .int x4)] [.int a29] g29 by
          unfold fd_X11_does at e29
          by_cases c11 : gC g26 a26 = 11
          · rw [if_pos c11] at e29
            exact x_callU (M' := mi_X13_does) (n := 1) (As := [.ref v28]) (S := [11]) (t_X13_does C _ e29) (by rw [c11]; decide) up_X1_224_11 (by decide +kernel) ⟨Nat.le_of_ble_eq_true rfl, Nat.le_of_ble_eq_true rfl⟩ q1221 rfl (Nat.le_of_ble_eq_true rfl) dX1_lived_43 kk
          rw [if_neg c11] at e29
          by_cases c12 : gC g26 a26 = 12
          · rw [if_pos c12] at e29
            exact x_callU (M' := mi_X14_does) (n := 1) (As := [.ref v28]) (S := [12]) (t_X14_does C _ e29) (by rw [c12]; decide) up_X1_224_12 (by decide +kernel) ⟨Nat.le_of_ble_eq_true rfl, Nat.le_of_ble_eq_true rfl⟩ q1261 rfl (Nat.le_of_ble_eq_true rfl) dX1_lived_43 kk
          rw [if_neg c12] at e29
          by_cases c13 : gC g26 a26 = 13
          · rw [if_pos c13] at e29
            exact x_callU (M' := mi_X15_does) (n := 1) (As := [.ref v28]) (S := [13]) (t_X15_does C _ e29) (by rw [c13]; decide) up_X1_224_13 (by decide +kernel) ⟨Nat.le_of_ble_eq_true rfl, Nat.le_of_ble_eq_true rfl⟩ q1293 rfl (Nat.le_of_ble_eq_true rfl) dX1_lived_43 kk
          rw [if_neg c13] at e29
          by_cases c14 : gC g26 a26 = 14
          · rw [if_pos c14] at e29
            exact x_callU (M' := mi_X16_does) (n := 1) (As := [.ref v28]) (S := [14]) (t_X16_does C _ e29) (by rw [c14]; decide) up_X1_224_14 (by decide +kernel) ⟨Nat.le_of_ble_eq_true rfl, Nat.le_of_ble_eq_true rfl⟩ q1303 rfl (Nat.le_of_ble_eq_true rfl) dX1_lived_43 kk
          rw [if_neg c14] at e29
          by_cases c15 : gC g26 a26 = 15
          · rw [if_pos c15] at e29
            exact x_callU (M' := mi_X18_does) (n := 1) (As := [.ref v28]) (S := [15]) (t_X18_does C _ e29) (by rw [c15]; decide) up_X1_224_15 (by decide +kernel) ⟨Nat.le_of_ble_eq_true rfl, Nat.le_of_ble_eq_true rfl⟩ q1276 rfl (Nat.le_of_ble_eq_true rfl) dX1_lived_43 kk
          rw [if_neg c15] at e29
          cases e29
        refine x_istore_n [1, 2, 3, 0, 4] dX1_lived_46 (by decide) rfl ?_
        refine x_iload_n 3 rfl dX1_lived_47 ?_
        refine x_if_ne 17 dX1_lived_48 (by decide) (fun c30 => ?_) (fun c30 => ?_)
        · rw [if_neg c30] at H
          exact ih _ _ _ _ _ _ H
        · rw [if_pos c30] at H
          refine x_iinc 4 (x4 + (1 : Int32)) [1, 2, 3, 4, 0] dX1_lived_51 rfl (ii_1 _) (by decide) rfl ?_
          refine x_goto (tgt := 17) dX1_lived_54 (by decide) ?_
          exact ih _ _ _ _ _ _ H
def f_X1_lived (r0 : Nat) (r1 : Nat) (x2 : Int32) (h : mH) : Option (Int32 × mH) := (gFr [0] 5 h r0).bind fun v1 => (gFr [0] 4 h r0).bind fun v2 => if gC h v1 = 2 then bR (f_X3_as v1 v2 h) fun a3 g3 => f_X1_lived_L17 (f_X1_lived_b57) xFu r0 r1 x2 (0 : Int32) (0 : Int32) g3 else none
theorem t_X1_lived {G : xG} (C0 : xC) {l : Launch} {r0 : Nat} {r1 : Nat} {x2 : Int32} (h : mH) {o : Int32 × mH} (H : f_X1_lived r0 r1 x2 h = some o) : XR G l mi_X1_lived [.ref r0, .ref r1, .int x2] h (some (.int o.1)) o.2 := by
  refine XR.of C0 (by decide) (Nat.le_of_ble_eq_true rfl) (fun C _ _ _ hE => ?_)
  show X G C mi_X1_lived 0 [(0, .ref r0), (1, .ref r1), (2, .int x2)] [] h
  unfold f_X1_lived at H
  refine x_aload_n 0 rfl dX1_lived_0 ?_
  obtain ⟨v1, e1, H⟩ := ob H
  refine x_getf fg_X1_40 (gFr_spec e1) dX1_lived_1 ?_
  refine x_aload_n 0 rfl dX1_lived_4 ?_
  obtain ⟨v2, e2, H⟩ := ob H
  refine x_getf fg_X1_36 (gFr_spec e2) dX1_lived_5 ?_
  obtain ⟨c3, H⟩ := oit H
  obtain ⟨a3, g3, e3, H⟩ := obR H
  refine x_callV (M' := mi_X3_as) (n := 1) (As := [.ref v2]) (t_X3_as C _ e3) c3 rfl rfl md_X3_as ⟨Nat.le_of_ble_eq_true rfl, Nat.le_of_ble_eq_true rfl⟩ q1209 q1210 q1211 q125 q1212 rfl (Nat.le_of_ble_eq_true rfl) dX1_lived_8 ?_
  refine x_pop dX1_lived_11 rfl ?_
  refine x_iconst (0 : Int32) dX1_lived_12 ic_0 ?_
  refine x_istore_n [1, 2, 3, 0] dX1_lived_13 (by decide) rfl ?_
  refine x_iconst (0 : Int32) dX1_lived_14 ic_0 ?_
  refine x_istore [1, 2, 3, 4, 0] dX1_lived_15 (by decide) rfl ?_
  exact t_X1_lived_L17 hE (t_X1_lived_b57 hE) xFu _ _ _ _ _ _ H
abbrev mi_X1_take : xM := (cX1_take, yX1_take, 2, some .int, 1)
theorem md_X1_take : xMD mi_X1_take 0 := ⟨by decide, by decide, by decide +kernel⟩
def f_X1_take (r0 : Nat) (h : mH) : Option (Int32 × mH) := (gFi [0] 1 h r0).bind fun v1 => (pF [0] 1 (.int (0 : Int32)) h r0).bind fun h2 => some (v1, h2)
theorem t_X1_take {G : xG} (C0 : xC) {l : Launch} {r0 : Nat} (h : mH) {o : Int32 × mH} (H : f_X1_take r0 h = some o) : XR G l mi_X1_take [.ref r0] h (some (.int o.1)) o.2 := by
  refine XR.of C0 (by decide) (Nat.le_of_ble_eq_true rfl) (fun C _ _ _ hE => ?_)
  show X G C mi_X1_take 0 [(0, .ref r0)] [] h
  unfold f_X1_take at H
  refine x_aload_n 0 rfl dX1_take_0 ?_
  obtain ⟨v1, e1, H⟩ := ob H
  refine x_getf fg_X1_86 (gFi_spec e1) dX1_take_1 ?_
  refine x_istore_n [1, 0] dX1_take_4 (by decide) rfl ?_
  refine x_aload_n 0 rfl dX1_take_5 ?_
  refine x_iconst (0 : Int32) dX1_take_6 ic_0 ?_
  obtain ⟨h2, e2, H⟩ := ob H
  refine x_putf (fp_X1_86 _) rfl rfl e2 dX1_take_7 ?_
  refine x_iload_n 1 rfl dX1_take_10 ?_
  obtain rfl := Option.some.inj H
  exact x_iret hE rfl rfl dX1_take_11
abbrev mi_X1_book : xM := (cX1_book, yX1_book, 4, some .int, 17)
theorem md_X1_book : xMD mi_X1_book 1 := ⟨by decide, by decide, by decide +kernel⟩
def f_X1_book_b57 (r0 : Nat) (s0 : Nat) (h : mH) : Option (Int32 × mH) := (gFi [8] 6 h s0).bind fun v9 => (pF [0] 2 (.int v9) h r0).bind fun h10 => (gFi [8] 7 h10 s0).bind fun v11 => some (((-2 : Int32) - v11), h10)
theorem t_X1_book_b57 {G : xG} {C : xC} {o : Int32 × mH} (hE : xEndT G C (tableOf [(23, 56, 57, 119)]) (.inl (some (.int o.1))) o.2) (r0 : Nat) (s0 : Nat) (h : mH) (H : f_X1_book_b57 r0 s0 h = some o) : X G C mi_X1_book 57 [(0, .ref r0)] [.ref s0] h := by
  unfold f_X1_book_b57 at H
  refine x_astore_n [1, 0] dX1_book_57 (by decide) rfl ?_
  refine x_aload_n 0 rfl dX1_book_58 ?_
  refine x_aload_n 1 rfl dX1_book_59 ?_
  obtain ⟨v9, e9, H⟩ := ob H
  refine x_getf fg_X1_121 (gFi_spec e9) dX1_book_60 ?_
  obtain ⟨h10, e10, H⟩ := ob H
  refine x_putf (fp_X1_97 _) rfl rfl e10 dX1_book_63 ?_
  refine x_bipush (-2 : Int32) dX1_book_66 bi_m2 ?_
  refine x_aload_n 1 rfl dX1_book_68 ?_
  obtain ⟨v11, e11, H⟩ := ob H
  refine x_getf fg_X1_124 (gFi_spec e11) dX1_book_69 ?_
  refine x_isub dX1_book_72 ?_
  obtain rfl := Option.some.inj H
  exact x_iretT hE rfl rfl dX1_book_73
def f_X1_book_b53 (s0 : Nat) (s1 : Nat) (s2 : Int32) (h : mH) : Option (Int32 × mH) := if gC h s0 = 0 then bR (f_X1_lived s0 s1 s2 h) fun a13 g13 => some (a13, g13) else none
theorem t_X1_book_b53 {G : xG} {C : xC} {o : Int32 × mH} (hE : xEndT G C (tableOf [(23, 56, 57, 119)]) (.inl (some (.int o.1))) o.2) (s0 : Nat) (s1 : Nat) (s2 : Int32) (h : mH) (H : f_X1_book_b53 s0 s1 s2 h = some o) : X G C mi_X1_book 53 [] [.int s2, .ref s1, .ref s0] h := by
  unfold f_X1_book_b53 at H
  obtain ⟨c13, H⟩ := oit H
  obtain ⟨a13, g13, e13, H⟩ := obR H
  refine x_callV (M' := mi_X1_lived) (n := 2) (As := [.ref s1, .int s2]) (t_X1_lived C _ e13) c13 rfl rfl md_X1_lived ⟨Nat.le_of_ble_eq_true rfl, Nat.le_of_ble_eq_true rfl⟩ q1629 q1631 qs41 q120 q1632 rfl (Nat.le_of_ble_eq_true rfl) dX1_book_53 ?_
  obtain rfl := Option.some.inj H
  exact x_iretT hE rfl rfl dX1_book_56
def f_X1_book (r0 : Nat) (x1 : Int32) (h : mH) : Option (Int32 × mH) := bR (f_X1_isIn x1 (0 : Int32) (1 : Int32) h) fun a1 g1 => if a1 = 0 then some ((-1000 : Int32), g1) else if gC g1 r0 = 0 then bR (f_X1_take r0  g1) fun a3 g3 => (pF [0] 2 (.int (0 : Int32)) g3 r0).bind fun h4 => (gFr [0] 0 (xnw h4 (.inr (6, [.ref 0, .int 0, .int 0, .int 0, .int 0, .int 0, .int 0, .int 0, .ref 0, .ref 0, .ref 0])) 11) r0).bind fun v5 => (gFr [0] 3 (xnw h4 (.inr (6, [.ref 0, .int 0, .int 0, .int 0, .int 0, .int 0, .int 0, .int 0, .ref 0, .ref 0, .ref 0])) 11) r0).bind fun v6 => if 6 ≤ h4.2.1 then bR (f_X17_init h4.2.1 v5 a3 v6 (xnw h4 (.inr (6, [.ref 0, .int 0, .int 0, .int 0, .int 0, .int 0, .int 0, .int 0, .ref 0, .ref 0, .ref 0])) 11)) fun a7 g7 => if gC g7 h4.2.1 = 6 then bH (f_X17_read h4.2.1  g7) (fun a8 h8 => if 6 ≤ a8 then f_X1_book_b57 r0 a8 h8 else none) fun v8 h8 => if x1 = (1 : Int32) then f_X1_book_b53 r0 v8 (1 : Int32) h8 else f_X1_book_b53 r0 v8 (0 : Int32) h8 else none else none else none
theorem t_X1_book {G : xG} (C0 : xC) {l : Launch} {r0 : Nat} {x1 : Int32} (h : mH) {o : Int32 × mH} (H : f_X1_book r0 x1 h = some o) : XRW G l mi_X1_book [(23, 56, 57, 119)] [.ref r0, .int x1] h (some (.int o.1)) o.2 := by
  refine XRW.of C0 (by decide) (Nat.le_of_ble_eq_true rfl) (fun C _ _ _ hE => ?_)
  show X G C mi_X1_book 0 [(0, .ref r0), (1, .int x1)] [] h
  unfold f_X1_book at H
  refine x_iload_n 1 rfl dX1_book_0 ?_
  refine x_iconst (0 : Int32) dX1_book_1 ic_0 ?_
  refine x_iconst (1 : Int32) dX1_book_2 ic_1 ?_
  obtain ⟨a1, g1, e1, H⟩ := obR H
  refine x_callS (M' := mi_X1_isIn) (n := 3) (As := [.int x1, .int (0 : Int32), .int (1 : Int32)]) (t_X1_isIn C _ e1) md_X1_isIn ⟨Nat.le_of_ble_eq_true rfl, Nat.le_of_ble_eq_true rfl⟩ q1126 q921 q120 q922 rfl (Nat.le_of_ble_eq_true rfl) dX1_book_3 ?_
  refine x_if_ne 13 dX1_book_6 (by decide) (fun c2 => ?_) (fun c2 => ?_)
  · rw [if_neg c2] at H
    refine x_aload_n 0 rfl dX1_book_13 ?_
    obtain ⟨c3, H⟩ := oit H
    obtain ⟨a3, g3, e3, H⟩ := obR H
    refine x_callV (M' := mi_X1_take) (n := 0) (As := []) (t_X1_take C _ e3) c3 rfl rfl md_X1_take ⟨Nat.le_of_ble_eq_true rfl, Nat.le_of_ble_eq_true rfl⟩ q453 q455 qs3 q120 q456 rfl (Nat.le_of_ble_eq_true rfl) dX1_book_14 ?_
    refine x_istore_n [1, 2, 0] dX1_book_17 (by decide) rfl ?_
    refine x_aload_n 0 rfl dX1_book_18 ?_
    refine x_iconst (0 : Int32) dX1_book_19 ic_0 ?_
    obtain ⟨h4, e4, H⟩ := ob H
    refine x_putf (fp_X1_97 _) rfl rfl e4 dX1_book_20 ?_
    refine x_aload_n 0 rfl dX1_book_23 ?_
    refine x_new (fs := [.ref 0, .int 0, .int 0, .int 0, .int 0, .int 0, .int 0, .int 0, .ref 0, .ref 0, .ref 0]) ci_6 q1542 q1543 q155 (nf_X17 G) rfl dX1_book_24 ?_
    refine x_dup dX1_book_27 rfl ?_
    refine x_aload_n 0 rfl dX1_book_28 ?_
    obtain ⟨v5, e5, H⟩ := ob H
    refine x_getf fg_X1_18 (gFr_spec e5) dX1_book_29 ?_
    refine x_iload_n 2 rfl dX1_book_32 ?_
    refine x_aload_n 0 rfl dX1_book_33 ?_
    obtain ⟨v6, e6, H⟩ := ob H
    refine x_getf fg_X1_25 (gFr_spec e6) dX1_book_34 ?_
    obtain ⟨c7, H⟩ := oit H
    obtain ⟨a7, g7, e7, H⟩ := obR H
    refine x_callI (M' := mi_X17_init) (n := 3) (As := [.ref v5, .int a3, .ref v6]) (t_X17_init C _ e7) c7 md_X17_init ⟨Nat.le_of_ble_eq_true rfl, Nat.le_of_ble_eq_true rfl⟩ rfl rfl q1544 q1545 q155 q1546 rfl (Nat.le_of_ble_eq_true rfl) dX1_book_37 ?_
    obtain ⟨c8, H⟩ := oit H
    rcases obH H with ⟨a8, h8, e8, H⟩ | ⟨v8, h8, e8, H⟩
    · obtain ⟨c, H⟩ := oit H
      refine x_goH (x := ⟨23, 56, 57, 119⟩) (t_X17_read C _ e8) (x_rV (M' := mi_X17_read) (n := 0) (As := []) (t_X17_read C _ e8) c8 rfl rfl md_X17_read ⟨Nat.le_of_ble_eq_true rfl, Nat.le_of_ble_eq_true rfl⟩ q1566 q1567 q1568 q155 q1569 rfl (Nat.le_of_ble_eq_true rfl) dX1_book_40) c hE.2.2.2 (by decide) (by decide) q452 ?_
      refine X.sub [0] rfl ?_
      exact t_X1_book_b57 hE _ _ _ H
    refine x_goR (r := (some (.ref v8))) (t_X17_read C _ e8) (x_rV (M' := mi_X17_read) (n := 0) (As := []) (t_X17_read C _ e8) c8 rfl rfl md_X17_read ⟨Nat.le_of_ble_eq_true rfl, Nat.le_of_ble_eq_true rfl⟩ q1566 q1567 q1568 q155 q1569 rfl (Nat.le_of_ble_eq_true rfl) dX1_book_40) ?_
    refine x_iload_n 1 rfl dX1_book_43 ?_
    refine x_iconst (1 : Int32) dX1_book_44 ic_1 ?_
    refine x_icmp_ne 52 dX1_book_45 (by decide) (fun c12 => ?_) (fun c12 => ?_)
    · rw [if_neg c12] at H
      refine x_iconst (0 : Int32) dX1_book_52 ic_0 ?_
      refine X.sub [] rfl ?_
      exact t_X1_book_b53 hE _ _ _ _ H
    · rw [if_pos c12] at H
      refine x_iconst (1 : Int32) dX1_book_48 ic_1 ?_
      refine x_goto (tgt := 53) dX1_book_49 (by decide) ?_
      refine X.sub [] rfl ?_
      exact t_X1_book_b53 hE _ _ _ _ H
  · rw [if_pos c2] at H
    refine x_sipush (-1000 : Int32) dX1_book_9 si_m1000 ?_
    obtain rfl := Option.some.inj H
    exact x_iretT hE rfl rfl dX1_book_12
abbrev mi_X1_does : xM := (cX1_does, yX1_does, 3, some .int, 10)
theorem md_X1_does : xMD mi_X1_does 1 := ⟨by decide, by decide, by decide +kernel⟩
def f_X1_does (r0 : Nat) (r1 : Nat) (h : mH) : Option (Int32 × mH) := (gFr [0] 5 h r0).bind fun v1 => (gFr [0] 4 h r0).bind fun v2 => if gC h v1 = 2 then bR (f_X3_as v1 v2 h) fun a3 g3 => bR (fd_X11_does r1 a3 g3) fun a4 g4 => if a4 = 0 then if gC g4 r0 = 0 then bR (f_X1_snap r0  g4) fun a6 g6 => (gFr [0] 4 g6 r0).bind fun v7 => (gFr [0] 5 g6 r0).bind fun v8 => if gC g6 v7 = 2 then bR (f_X3_as v7 v8 g6) fun a9 g9 => some ((0 : Int32), g9) else none else none else some ((a4 - a4 / (10 : Int32) * (10 : Int32)), g4) else none
theorem t_X1_does {G : xG} (C0 : xC) {l : Launch} {r0 : Nat} {r1 : Nat} (h : mH) {o : Int32 × mH} (H : f_X1_does r0 r1 h = some o) : XR G l mi_X1_does [.ref r0, .ref r1] h (some (.int o.1)) o.2 := by
  refine XR.of C0 (by decide) (Nat.le_of_ble_eq_true rfl) (fun C _ _ _ hE => ?_)
  show X G C mi_X1_does 0 [(0, .ref r0), (1, .ref r1)] [] h
  unfold f_X1_does at H
  refine x_aload_n 1 rfl dX1_does_0 ?_
  refine x_aload_n 0 rfl dX1_does_1 ?_
  obtain ⟨v1, e1, H⟩ := ob H
  refine x_getf fg_X1_40 (gFr_spec e1) dX1_does_2 ?_
  refine x_aload_n 0 rfl dX1_does_5 ?_
  obtain ⟨v2, e2, H⟩ := ob H
  refine x_getf fg_X1_36 (gFr_spec e2) dX1_does_6 ?_
  obtain ⟨c3, H⟩ := oit H
  obtain ⟨a3, g3, e3, H⟩ := obR H
  refine x_callV (M' := mi_X3_as) (n := 1) (As := [.ref v2]) (t_X3_as C _ e3) c3 rfl rfl md_X3_as ⟨Nat.le_of_ble_eq_true rfl, Nat.le_of_ble_eq_true rfl⟩ q1209 q1210 q1211 q125 q1212 rfl (Nat.le_of_ble_eq_true rfl) dX1_does_9 ?_
  obtain ⟨a4, g4, e4, H⟩ := obR H
  suffices kk : X G C mi_X1_does 15 [(0, .ref r0), (1, .ref r1)] [.int a4] g4 by
    unfold fd_X11_does at e4
    by_cases c11 : gC g3 r1 = 11
    · rw [if_pos c11] at e4
      exact x_callU (M' := mi_X13_does) (n := 1) (As := [.ref a3]) (S := [11]) (t_X13_does C _ e4) (by rw [c11]; decide) up_X1_224_11 (by decide +kernel) ⟨Nat.le_of_ble_eq_true rfl, Nat.le_of_ble_eq_true rfl⟩ q1221 rfl (Nat.le_of_ble_eq_true rfl) dX1_does_12 kk
    rw [if_neg c11] at e4
    by_cases c12 : gC g3 r1 = 12
    · rw [if_pos c12] at e4
      exact x_callU (M' := mi_X14_does) (n := 1) (As := [.ref a3]) (S := [12]) (t_X14_does C _ e4) (by rw [c12]; decide) up_X1_224_12 (by decide +kernel) ⟨Nat.le_of_ble_eq_true rfl, Nat.le_of_ble_eq_true rfl⟩ q1261 rfl (Nat.le_of_ble_eq_true rfl) dX1_does_12 kk
    rw [if_neg c12] at e4
    by_cases c13 : gC g3 r1 = 13
    · rw [if_pos c13] at e4
      exact x_callU (M' := mi_X15_does) (n := 1) (As := [.ref a3]) (S := [13]) (t_X15_does C _ e4) (by rw [c13]; decide) up_X1_224_13 (by decide +kernel) ⟨Nat.le_of_ble_eq_true rfl, Nat.le_of_ble_eq_true rfl⟩ q1293 rfl (Nat.le_of_ble_eq_true rfl) dX1_does_12 kk
    rw [if_neg c13] at e4
    by_cases c14 : gC g3 r1 = 14
    · rw [if_pos c14] at e4
      exact x_callU (M' := mi_X16_does) (n := 1) (As := [.ref a3]) (S := [14]) (t_X16_does C _ e4) (by rw [c14]; decide) up_X1_224_14 (by decide +kernel) ⟨Nat.le_of_ble_eq_true rfl, Nat.le_of_ble_eq_true rfl⟩ q1303 rfl (Nat.le_of_ble_eq_true rfl) dX1_does_12 kk
    rw [if_neg c14] at e4
    by_cases c15 : gC g3 r1 = 15
    · rw [if_pos c15] at e4
      exact x_callU (M' := mi_X18_does) (n := 1) (As := [.ref a3]) (S := [15]) (t_X18_does C _ e4) (by rw [c15]; decide) up_X1_224_15 (by decide +kernel) ⟨Nat.le_of_ble_eq_true rfl, Nat.le_of_ble_eq_true rfl⟩ q1276 rfl (Nat.le_of_ble_eq_true rfl) dX1_does_12 kk
    rw [if_neg c15] at e4
    cases e4
  refine x_istore_n [1, 2, 0] dX1_does_15 (by decide) rfl ?_
  refine x_iload_n 2 rfl dX1_does_16 ?_
  refine x_if_eq 25 dX1_does_17 (by decide) (fun c5 => ?_) (fun c5 => ?_)
  · rw [if_pos c5] at H
    refine x_aload_n 0 rfl dX1_does_25 ?_
    obtain ⟨c6, H⟩ := oit H
    obtain ⟨a6, g6, e6, H⟩ := obR H
    refine x_callV (M' := mi_X1_snap) (n := 0) (As := []) (t_X1_snap C _ e6) c6 rfl rfl md_X1_snap ⟨Nat.le_of_ble_eq_true rfl, Nat.le_of_ble_eq_true rfl⟩ q1314 q1316 qs25 q120 q1317 rfl (Nat.le_of_ble_eq_true rfl) dX1_does_26 ?_
    refine x_aload_n 0 rfl dX1_does_29 ?_
    obtain ⟨v7, e7, H⟩ := ob H
    refine x_getf fg_X1_36 (gFr_spec e7) dX1_does_30 ?_
    refine x_aload_n 0 rfl dX1_does_33 ?_
    obtain ⟨v8, e8, H⟩ := ob H
    refine x_getf fg_X1_40 (gFr_spec e8) dX1_does_34 ?_
    obtain ⟨c9, H⟩ := oit H
    obtain ⟨a9, g9, e9, H⟩ := obR H
    refine x_callV (M' := mi_X3_as) (n := 1) (As := [.ref v8]) (t_X3_as C _ e9) c9 rfl rfl md_X3_as ⟨Nat.le_of_ble_eq_true rfl, Nat.le_of_ble_eq_true rfl⟩ q1209 q1210 q1211 q125 q1212 rfl (Nat.le_of_ble_eq_true rfl) dX1_does_37 ?_
    refine x_pop dX1_does_40 rfl ?_
    refine x_iconst (0 : Int32) dX1_does_41 ic_0 ?_
    obtain rfl := Option.some.inj H
    exact x_iret hE rfl rfl dX1_does_42
  · rw [if_neg c5] at H
    refine x_iload_n 2 rfl dX1_does_20 ?_
    refine x_bipush (10 : Int32) dX1_does_21 bi_10 ?_
    refine x_irem dX1_does_23 (by decide) ?_
    obtain rfl := Option.some.inj H
    exact x_iret hE rfl rfl dX1_does_24
abbrev mi_X2_isGood : xM := (cX2_isGood, yX2_isGood, 2, some .boolean, 2)
theorem md_X2_isGood : xMD mi_X2_isGood 1 := ⟨by decide, by decide, by decide +kernel⟩
def f_X2_isGood (r0 : Nat) (x1 : Int32) (h : mH) : Option (Int32 × mH) := (gFr [1] 5 h r0).bind fun v1 => if gC h v1 = 21 then bR (f_J2_size v1  h) fun a2 g2 => bR (f_X1_isIn x1 (0 : Int32) (a2 - (1 : Int32)) g2) fun a3 g3 => rZ a3 g3 else none
theorem t_X2_isGood {G : xG} (C0 : xC) {l : Launch} {r0 : Nat} {x1 : Int32} (h : mH) {o : Int32 × mH} (H : f_X2_isGood r0 x1 h = some o) : XR G l mi_X2_isGood [.ref r0, .int x1] h (some (.int o.1)) o.2 := by
  refine XR.of C0 (by decide) (Nat.le_of_ble_eq_true rfl) (fun C _ _ _ hE => ?_)
  show X G C mi_X2_isGood 0 [(0, .ref r0), (1, .int x1)] [] h
  unfold f_X2_isGood at H
  refine x_iload_n 1 rfl dX2_isGood_0 ?_
  refine x_iconst (0 : Int32) dX2_isGood_1 ic_0 ?_
  refine x_aload_n 0 rfl dX2_isGood_2 ?_
  obtain ⟨v1, e1, H⟩ := ob H
  refine x_getf fg_X2_23 (gFr_spec e1) dX2_isGood_3 ?_
  obtain ⟨c2, H⟩ := oit H
  obtain ⟨a2, g2, e2, H⟩ := obR H
  refine x_callV (M' := mi_J2_size) (n := 0) (As := []) (t_J2_size C _ e2) c2 rfl rfl md_J2_size ⟨Nat.le_of_ble_eq_true rfl, Nat.le_of_ble_eq_true rfl⟩ q1116 q317 q318 q124 q319 rfl (Nat.le_of_ble_eq_true rfl) dX2_isGood_6 ?_
  refine x_iconst (1 : Int32) dX2_isGood_9 ic_1 ?_
  refine x_isub dX2_isGood_10 ?_
  obtain ⟨a3, g3, e3, H⟩ := obR H
  refine x_callSN (M' := mi_X1_isIn) (n := 3) (As := [.int x1, .int (0 : Int32), .int (a2 - (1 : Int32))]) (t_X1_isIn C _ e3) md_X1_isIn ⟨Nat.le_of_ble_eq_true rfl, Nat.le_of_ble_eq_true rfl⟩ q1117 q921 q120 q922 rfl (Nat.le_of_ble_eq_true rfl) dX2_isGood_11 ?_
  obtain ⟨c, rfl⟩ := rZ_spec H
  exact x_iret hE rfl c dX2_isGood_14
abbrev mi_X1_isGood : xM := (cX1_isGood, yX1_isGood, 2, some .boolean, 3)
theorem md_X1_isGood : xMD mi_X1_isGood 1 := ⟨by decide, by decide, by decide +kernel⟩
def f_X1_isGood (r0 : Nat) (x1 : Int32) (h : mH) : Option (Int32 × mH) := (gFr [0] 3 h r0).bind fun v1 => if gC h v1 = 1 then bR (f_X2_isGood v1 x1 h) fun a2 g2 => rZ a2 g2 else none
theorem t_X1_isGood {G : xG} (C0 : xC) {l : Launch} {r0 : Nat} {x1 : Int32} (h : mH) {o : Int32 × mH} (H : f_X1_isGood r0 x1 h = some o) : XR G l mi_X1_isGood [.ref r0, .int x1] h (some (.int o.1)) o.2 := by
  refine XR.of C0 (by decide) (Nat.le_of_ble_eq_true rfl) (fun C _ _ _ hE => ?_)
  show X G C mi_X1_isGood 0 [(0, .ref r0), (1, .int x1)] [] h
  unfold f_X1_isGood at H
  refine x_aload_n 0 rfl dX1_isGood_0 ?_
  obtain ⟨v1, e1, H⟩ := ob H
  refine x_getf fg_X1_25 (gFr_spec e1) dX1_isGood_1 ?_
  refine x_iload_n 1 rfl dX1_isGood_4 ?_
  obtain ⟨c2, H⟩ := oit H
  obtain ⟨a2, g2, e2, H⟩ := obR H
  refine x_callV (M' := mi_X2_isGood) (n := 1) (As := [.int x1]) (t_X2_isGood C _ e2) c2 rfl rfl md_X2_isGood ⟨Nat.le_of_ble_eq_true rfl, Nat.le_of_ble_eq_true rfl⟩ q1122 q1123 q1124 q121 q1125 rfl (Nat.le_of_ble_eq_true rfl) dX1_isGood_5 ?_
  obtain ⟨c, rfl⟩ := rZ_spec H
  exact x_iret hE rfl c dX1_isGood_8
abbrev mi_X1_buy : xM := (cX1_buy, yX1_buy, 4, some .int, 11)
theorem md_X1_buy : xMD mi_X1_buy 3 := ⟨by decide, by decide, by decide +kernel⟩
def f_X1_buy (r0 : Nat) (x1 : Int32) (x2 : Int32) (x3 : Int32) (h : mH) : Option (Int32 × mH) := if gC h r0 = 0 then bR (f_X1_isPerson r0 x1 h) fun a1 g1 => if a1 = 0 then some ((-1 : Int32), g1) else if gC g1 r0 = 0 then bR (f_X1_isGood r0 x2 g1) fun a3 g3 => if a3 = 0 then some ((-1 : Int32), g3) else if gC g3 r0 = 0 then bR (f_X1_isPerson r0 x3 g3) fun a5 g5 => if a5 = 0 then some ((-1 : Int32), g5) else if 6 ≤ g5.2.1 then bR (f_X13_init g5.2.1 x1 x2 x3 (xnw g5 (.inr (11, [.int 0, .int 0, .int 0])) 3)) fun a7 g7 => if gC g7 r0 = 0 then bR (f_X1_does r0 g5.2.1 g7) fun a8 g8 => some (a8, g8) else none else none else none else none else none
theorem t_X1_buy {G : xG} (C0 : xC) {l : Launch} {r0 : Nat} {x1 : Int32} {x2 : Int32} {x3 : Int32} (h : mH) {o : Int32 × mH} (H : f_X1_buy r0 x1 x2 x3 h = some o) : XR G l mi_X1_buy [.ref r0, .int x1, .int x2, .int x3] h (some (.int o.1)) o.2 := by
  refine XR.of C0 (by decide) (Nat.le_of_ble_eq_true rfl) (fun C _ _ _ hE => ?_)
  show X G C mi_X1_buy 0 [(0, .ref r0), (1, .int x1), (2, .int x2), (3, .int x3)] [] h
  unfold f_X1_buy at H
  refine x_aload_n 0 rfl dX1_buy_0 ?_
  refine x_iload_n 1 rfl dX1_buy_1 ?_
  obtain ⟨c1, H⟩ := oit H
  obtain ⟨a1, g1, e1, H⟩ := obR H
  refine x_callV (M' := mi_X1_isPerson) (n := 1) (As := [.int x1]) (t_X1_isPerson C _ e1) c1 rfl rfl md_X1_isPerson ⟨Nat.le_of_ble_eq_true rfl, Nat.le_of_ble_eq_true rfl⟩ q1108 q1110 qs19 q120 q1111 rfl (Nat.le_of_ble_eq_true rfl) dX1_buy_2 ?_
  refine x_if_eq 41 dX1_buy_5 (by decide) (fun c2 => ?_) (fun c2 => ?_)
  · rw [if_pos c2] at H
    refine x_iconst (-1 : Int32) dX1_buy_41 ic_m1 ?_
    obtain rfl := Option.some.inj H
    exact x_iret hE rfl rfl dX1_buy_42
  · rw [if_neg c2] at H
    refine x_aload_n 0 rfl dX1_buy_8 ?_
    refine x_iload_n 2 rfl dX1_buy_9 ?_
    obtain ⟨c3, H⟩ := oit H
    obtain ⟨a3, g3, e3, H⟩ := obR H
    refine x_callV (M' := mi_X1_isGood) (n := 1) (As := [.int x2]) (t_X1_isGood C _ e3) c3 rfl rfl md_X1_isGood ⟨Nat.le_of_ble_eq_true rfl, Nat.le_of_ble_eq_true rfl⟩ q1118 q1120 qs20 q120 q1121 rfl (Nat.le_of_ble_eq_true rfl) dX1_buy_10 ?_
    refine x_if_eq 41 dX1_buy_13 (by decide) (fun c4 => ?_) (fun c4 => ?_)
    · rw [if_pos c4] at H
      refine x_iconst (-1 : Int32) dX1_buy_41 ic_m1 ?_
      obtain rfl := Option.some.inj H
      exact x_iret hE rfl rfl dX1_buy_42
    · rw [if_neg c4] at H
      refine x_aload_n 0 rfl dX1_buy_16 ?_
      refine x_iload_n 3 rfl dX1_buy_17 ?_
      obtain ⟨c5, H⟩ := oit H
      obtain ⟨a5, g5, e5, H⟩ := obR H
      refine x_callV (M' := mi_X1_isPerson) (n := 1) (As := [.int x3]) (t_X1_isPerson C _ e5) c5 rfl rfl md_X1_isPerson ⟨Nat.le_of_ble_eq_true rfl, Nat.le_of_ble_eq_true rfl⟩ q1108 q1110 qs19 q120 q1111 rfl (Nat.le_of_ble_eq_true rfl) dX1_buy_18 ?_
      refine x_if_eq 41 dX1_buy_21 (by decide) (fun c6 => ?_) (fun c6 => ?_)
      · rw [if_pos c6] at H
        refine x_iconst (-1 : Int32) dX1_buy_41 ic_m1 ?_
        obtain rfl := Option.some.inj H
        exact x_iret hE rfl rfl dX1_buy_42
      · rw [if_neg c6] at H
        refine x_aload_n 0 rfl dX1_buy_24 ?_
        refine x_new (fs := [.int 0, .int 0, .int 0]) ci_11 q1169 q1170 q151 (nf_X13 G) rfl dX1_buy_25 ?_
        refine x_dup dX1_buy_28 rfl ?_
        refine x_iload_n 1 rfl dX1_buy_29 ?_
        refine x_iload_n 2 rfl dX1_buy_30 ?_
        refine x_iload_n 3 rfl dX1_buy_31 ?_
        obtain ⟨c7, H⟩ := oit H
        obtain ⟨a7, g7, e7, H⟩ := obR H
        refine x_callI (M' := mi_X13_init) (n := 3) (As := [.int x1, .int x2, .int x3]) (t_X13_init C _ e7) c7 md_X13_init ⟨Nat.le_of_ble_eq_true rfl, Nat.le_of_ble_eq_true rfl⟩ rfl rfl q1171 q1172 q151 q1173 rfl (Nat.le_of_ble_eq_true rfl) dX1_buy_32 ?_
        obtain ⟨c8, H⟩ := oit H
        obtain ⟨a8, g8, e8, H⟩ := obR H
        refine x_callV (M' := mi_X1_does) (n := 1) (As := [.ref g5.2.1]) (t_X1_does C _ e8) c8 rfl rfl md_X1_does ⟨Nat.le_of_ble_eq_true rfl, Nat.le_of_ble_eq_true rfl⟩ q1205 q1207 qs24 q120 q1208 rfl (Nat.le_of_ble_eq_true rfl) dX1_buy_35 ?_
        refine x_goto (tgt := 42) dX1_buy_38 (by decide) ?_
        obtain rfl := Option.some.inj H
        exact x_iret hE rfl rfl dX1_buy_42
abbrev mi_J12_charAt : xM := (cJ12_charAt, yJ12_charAt, 2, some .char, 3)
theorem md_J12_charAt : xMD mi_J12_charAt 2 := ⟨by decide, by decide, by decide +kernel⟩
def f_J12_charAt (r0 : Nat) (x1 : Int32) (h : mH) : Option (Int32 × mH) := (aN h r0).bind fun v1 => bR (f_J8_checkIndex x1 v1 h) fun a2 g2 => (aI .byte g2 r0 x1).bind fun v3 => rC (((v3 &&& (255 : Int32)).toUInt32 % 65536).toInt32) g2
theorem t_J12_charAt {G : xG} (C0 : xC) {l : Launch} {r0 : Nat} {x1 : Int32} (h : mH) {o : Int32 × mH} (H : f_J12_charAt r0 x1 h = some o) : XR G l mi_J12_charAt [.ref r0, .int x1] h (some (.int o.1)) o.2 := by
  refine XR.of C0 (by decide) (Nat.le_of_ble_eq_true rfl) (fun C _ _ _ hE => ?_)
  show X G C mi_J12_charAt 0 [(0, .ref r0), (1, .int x1)] [] h
  unfold f_J12_charAt at H
  refine x_iload_n 1 rfl dJ12_charAt_0 ?_
  refine x_aload_n 0 rfl dJ12_charAt_1 ?_
  obtain ⟨v1, e1, H⟩ := ob H
  refine x_alen e1 dJ12_charAt_2 ?_
  obtain ⟨a2, g2, e2, H⟩ := obR H
  refine x_callS (M' := mi_J8_checkIndex) (n := 2) (As := [.int x1, .int v1]) (t_J8_checkIndex C _ e2) md_J8_checkIndex ⟨Nat.le_of_ble_eq_true rfl, Nat.le_of_ble_eq_true rfl⟩ q1503 q652 q136 q653 rfl (Nat.le_of_ble_eq_true rfl) dJ12_charAt_3 ?_
  refine x_aload_n 0 rfl dJ12_charAt_6 ?_
  refine x_iload_n 1 rfl dJ12_charAt_7 ?_
  obtain ⟨v3, e3, H⟩ := ob H
  refine x_bald e3 dJ12_charAt_8 ?_
  refine x_sipush (255 : Int32) dJ12_charAt_9 si_255 ?_
  refine x_iand dJ12_charAt_12 ?_
  refine x_i2c dJ12_charAt_13 ?_
  obtain ⟨c, rfl⟩ := rC_spec H
  exact x_iret hE rfl c dJ12_charAt_14
abbrev mi_J9_charAt : xM := (cJ9_charAt, yJ9_charAt, 2, some .char, 4)
theorem md_J9_charAt : xMD mi_J9_charAt 2 := ⟨by decide, by decide, by decide +kernel⟩
def f_J9_charAt (r0 : Nat) (x1 : Int32) (h : mH) : Option (Int32 × mH) := bR (f_J9_checkIndex x1 r0 h) fun a1 g1 => bR (f_J9_getChar r0 x1 g1) fun a2 g2 => rC a2 g2
theorem t_J9_charAt {G : xG} (C0 : xC) {l : Launch} {r0 : Nat} {x1 : Int32} (h : mH) {o : Int32 × mH} (H : f_J9_charAt r0 x1 h = some o) : XR G l mi_J9_charAt [.ref r0, .int x1] h (some (.int o.1)) o.2 := by
  refine XR.of C0 (by decide) (Nat.le_of_ble_eq_true rfl) (fun C _ _ _ hE => ?_)
  show X G C mi_J9_charAt 0 [(0, .ref r0), (1, .int x1)] [] h
  unfold f_J9_charAt at H
  refine x_iload_n 1 rfl dJ9_charAt_0 ?_
  refine x_aload_n 0 rfl dJ9_charAt_1 ?_
  obtain ⟨a1, g1, e1, H⟩ := obR H
  refine x_callS (M' := mi_J9_checkIndex) (n := 2) (As := [.int x1, .ref r0]) (t_J9_checkIndex C _ e1) md_J9_checkIndex ⟨Nat.le_of_ble_eq_true rfl, Nat.le_of_ble_eq_true rfl⟩ q648 q649 q137 q650 rfl (Nat.le_of_ble_eq_true rfl) dJ9_charAt_2 ?_
  refine x_aload_n 0 rfl dJ9_charAt_5 ?_
  refine x_iload_n 1 rfl dJ9_charAt_6 ?_
  obtain ⟨a2, g2, e2, H⟩ := obR H
  refine x_callS (M' := mi_J9_getChar) (n := 2) (As := [.ref r0, .int x1]) (t_J9_getChar C _ e2) md_J9_getChar ⟨Nat.le_of_ble_eq_true rfl, Nat.le_of_ble_eq_true rfl⟩ q698 q699 q137 q700 rfl (Nat.le_of_ble_eq_true rfl) dJ9_charAt_7 ?_
  obtain ⟨c, rfl⟩ := rC_spec H
  exact x_iret hE rfl c dJ9_charAt_10
abbrev mi_J8_charAt : xM := (cJ8_charAt, yJ8_charAt, 2, some .char, 5)
theorem md_J8_charAt : xMD mi_J8_charAt 1 := ⟨by decide, by decide, by decide +kernel⟩
def f_J8_charAt (r0 : Nat) (x1 : Int32) (h : mH) : Option (Int32 × mH) := if gC h r0 = 23 then bR (f_J8_isLatin1 r0  h) fun a1 g1 => if a1 = 0 then (gFr [23] 0 g1 r0).bind fun v3 => bR (f_J9_charAt v3 x1 g1) fun a4 g4 => rC a4 g4 else (gFr [23] 0 g1 r0).bind fun v5 => bR (f_J12_charAt v5 x1 g1) fun a6 g6 => rC a6 g6 else none
theorem t_J8_charAt {G : xG} (C0 : xC) {l : Launch} {r0 : Nat} {x1 : Int32} (h : mH) {o : Int32 × mH} (H : f_J8_charAt r0 x1 h = some o) : XR G l mi_J8_charAt [.ref r0, .int x1] h (some (.int o.1)) o.2 := by
  refine XR.of C0 (by decide) (Nat.le_of_ble_eq_true rfl) (fun C _ _ _ hE => ?_)
  show X G C mi_J8_charAt 0 [(0, .ref r0), (1, .int x1)] [] h
  unfold f_J8_charAt at H
  refine x_aload_n 0 rfl dJ8_charAt_0 ?_
  obtain ⟨c1, H⟩ := oit H
  obtain ⟨a1, g1, e1, H⟩ := obR H
  refine x_callV (M' := mi_J8_isLatin1) (n := 0) (As := []) (t_J8_isLatin1 C _ e1) c1 rfl rfl md_J8_isLatin1 ⟨Nat.le_of_ble_eq_true rfl, Nat.le_of_ble_eq_true rfl⟩ q880 q881 q882 q136 q883 rfl (Nat.le_of_ble_eq_true rfl) dJ8_charAt_1 ?_
  refine x_if_eq 16 dJ8_charAt_4 (by decide) (fun c2 => ?_) (fun c2 => ?_)
  · rw [if_pos c2] at H
    refine x_aload_n 0 rfl dJ8_charAt_16 ?_
    obtain ⟨v3, e3, H⟩ := ob H
    refine x_getf fg_J8_9 (gFr_spec e3) dJ8_charAt_17 ?_
    refine x_iload_n 1 rfl dJ8_charAt_20 ?_
    obtain ⟨a4, g4, e4, H⟩ := obR H
    refine x_callS (M' := mi_J9_charAt) (n := 2) (As := [.ref v3, .int x1]) (t_J9_charAt C _ e4) md_J9_charAt ⟨Nat.le_of_ble_eq_true rfl, Nat.le_of_ble_eq_true rfl⟩ q1504 q1505 q137 q1506 rfl (Nat.le_of_ble_eq_true rfl) dJ8_charAt_21 ?_
    obtain ⟨c, rfl⟩ := rC_spec H
    exact x_iret hE rfl c dJ8_charAt_24
  · rw [if_neg c2] at H
    refine x_aload_n 0 rfl dJ8_charAt_7 ?_
    obtain ⟨v5, e5, H⟩ := ob H
    refine x_getf fg_J8_9 (gFr_spec e5) dJ8_charAt_8 ?_
    refine x_iload_n 1 rfl dJ8_charAt_11 ?_
    obtain ⟨a6, g6, e6, H⟩ := obR H
    refine x_callS (M' := mi_J12_charAt) (n := 2) (As := [.ref v5, .int x1]) (t_J12_charAt C _ e6) md_J12_charAt ⟨Nat.le_of_ble_eq_true rfl, Nat.le_of_ble_eq_true rfl⟩ q1500 q1501 q140 q1502 rfl (Nat.le_of_ble_eq_true rfl) dJ8_charAt_12 ?_
    obtain ⟨c, rfl⟩ := rC_spec H
    exact x_iret hE rfl c dJ8_charAt_15
abbrev mi_X1_byteAt : xM := (cX1_byteAt, yX1_byteAt, 2, some .int, 6)
theorem md_X1_byteAt : xMD mi_X1_byteAt 1 := ⟨by decide, by decide, by decide +kernel⟩
def f_X1_byteAt (r0 : Nat) (x1 : Int32) (h : mH) : Option (Int32 × mH) := (gFr [0] 18 h r0).bind fun v1 => if gC h v1 = 23 then bR (f_J8_length v1  h) fun a2 g2 => bR (f_X1_isIn x1 (0 : Int32) (a2 - (1 : Int32)) g2) fun a3 g3 => if a3 = 0 then some ((-1 : Int32), g3) else (gFr [0] 18 g3 r0).bind fun v5 => if gC g3 v5 = 23 then bR (f_J8_charAt v5 x1 g3) fun a6 g6 => some (a6, g6) else none else none
theorem t_X1_byteAt {G : xG} (C0 : xC) {l : Launch} {r0 : Nat} {x1 : Int32} (h : mH) {o : Int32 × mH} (H : f_X1_byteAt r0 x1 h = some o) : XR G l mi_X1_byteAt [.ref r0, .int x1] h (some (.int o.1)) o.2 := by
  refine XR.of C0 (by decide) (Nat.le_of_ble_eq_true rfl) (fun C _ _ _ hE => ?_)
  show X G C mi_X1_byteAt 0 [(0, .ref r0), (1, .int x1)] [] h
  unfold f_X1_byteAt at H
  refine x_iload_n 1 rfl dX1_byteAt_0 ?_
  refine x_iconst (0 : Int32) dX1_byteAt_1 ic_0 ?_
  refine x_aload_n 0 rfl dX1_byteAt_2 ?_
  obtain ⟨v1, e1, H⟩ := ob H
  refine x_getf fg_X1_72 (gFr_spec e1) dX1_byteAt_3 ?_
  obtain ⟨c2, H⟩ := oit H
  obtain ⟨a2, g2, e2, H⟩ := obR H
  refine x_callV (M' := mi_J8_length) (n := 0) (As := []) (t_J8_length C _ e2) c2 rfl rfl md_J8_length ⟨Nat.le_of_ble_eq_true rfl, Nat.le_of_ble_eq_true rfl⟩ q1491 q854 q855 q136 q856 rfl (Nat.le_of_ble_eq_true rfl) dX1_byteAt_6 ?_
  refine x_iconst (1 : Int32) dX1_byteAt_9 ic_1 ?_
  refine x_isub dX1_byteAt_10 ?_
  obtain ⟨a3, g3, e3, H⟩ := obR H
  refine x_callS (M' := mi_X1_isIn) (n := 3) (As := [.int x1, .int (0 : Int32), .int (a2 - (1 : Int32))]) (t_X1_isIn C _ e3) md_X1_isIn ⟨Nat.le_of_ble_eq_true rfl, Nat.le_of_ble_eq_true rfl⟩ q1126 q921 q120 q922 rfl (Nat.le_of_ble_eq_true rfl) dX1_byteAt_11 ?_
  refine x_if_eq 28 dX1_byteAt_14 (by decide) (fun c4 => ?_) (fun c4 => ?_)
  · rw [if_pos c4] at H
    refine x_iconst (-1 : Int32) dX1_byteAt_28 ic_m1 ?_
    obtain rfl := Option.some.inj H
    exact x_iret hE rfl rfl dX1_byteAt_29
  · rw [if_neg c4] at H
    refine x_aload_n 0 rfl dX1_byteAt_17 ?_
    obtain ⟨v5, e5, H⟩ := ob H
    refine x_getf fg_X1_72 (gFr_spec e5) dX1_byteAt_18 ?_
    refine x_iload_n 1 rfl dX1_byteAt_21 ?_
    obtain ⟨c6, H⟩ := oit H
    obtain ⟨a6, g6, e6, H⟩ := obR H
    refine x_callV (M' := mi_J8_charAt) (n := 1) (As := [.int x1]) (t_J8_charAt C _ e6) c6 rfl rfl md_J8_charAt ⟨Nat.le_of_ble_eq_true rfl, Nat.le_of_ble_eq_true rfl⟩ q1496 q1497 q1498 q136 q1499 rfl (Nat.le_of_ble_eq_true rfl) dX1_byteAt_22 ?_
    refine x_goto (tgt := 29) dX1_byteAt_25 (by decide) ?_
    obtain rfl := Option.some.inj H
    exact x_iret hE rfl rfl dX1_byteAt_29
abbrev mi_X1_leads (d : Nat) : xM := (cX1_leads, yX1_leads, 7, some .boolean, 8 + d)
theorem md_X1_leads (d : Nat) : xMD (mi_X1_leads d) 5 := ⟨by first | decide | (dsimp only [mi_X1_leads]; decide), by first | decide | (dsimp only [mi_X1_leads]; decide), by first | decide +kernel | (dsimp only [mi_X1_leads]; decide +kernel)⟩
def f_X1_leads_b93 (rc_X1_leads : Nat → Int32 → Int32 → Int32 → Int32 → Int32 → mH → Option (Int32 × mH)) (kb : Nat → Int32 → Int32 → Int32 → Int32 → Int32 → Int32 → mH → Option (Int32 × mH)) (r0 : Nat) (x1 : Int32) (x2 : Int32) (x3 : Int32) (x4 : Int32) (x5 : Int32) (x6 : Int32) (h : mH) : Option (Int32 × mH) := kb r0 x1 x2 x3 x4 x5 (x6 + (1 : Int32)) h
theorem t_X1_leads_b93 {G : xG} {C : xC} {d : Nat} {rc_X1_leads : Nat → Int32 → Int32 → Int32 → Int32 → Int32 → mH → Option (Int32 × mH)} (hrc_X1_leads : ∀ {l : Launch} {r0 : Nat} {x1 : Int32} {x2 : Int32} {x3 : Int32} {x4 : Int32} {x5 : Int32} (h : mH) {o : Int32 × mH}, rc_X1_leads r0 x1 x2 x3 x4 x5 h = some o → XR G l (mi_X1_leads d) [.ref r0, .int x1, .int x2, .int x3, .int x4, .int x5] h (some (.int o.1)) o.2) {o : Int32 × mH} (hE : xEnd G C (some (.int o.1)) o.2) {kb : Nat → Int32 → Int32 → Int32 → Int32 → Int32 → Int32 → mH → Option (Int32 × mH)} (hkb : ∀ (r0 : Nat) (x1 : Int32) (x2 : Int32) (x3 : Int32) (x4 : Int32) (x5 : Int32) (x6 : Int32) (h : mH), kb r0 x1 x2 x3 x4 x5 x6 h = some o → X G C (mi_X1_leads (d + 1)) 19 [(0, .ref r0), (1, .int x1), (2, .int x2), (3, .int x3), (4, .int x4), (5, .int x5), (6, .int x6)] [] h) (r0 : Nat) (x1 : Int32) (x2 : Int32) (x3 : Int32) (x4 : Int32) (x5 : Int32) (x6 : Int32) (h : mH) (H : f_X1_leads_b93 rc_X1_leads kb r0 x1 x2 x3 x4 x5 x6 h = some o) : X G C (mi_X1_leads (d + 1)) 93 [(0, .ref r0), (1, .int x1), (2, .int x2), (3, .int x3), (4, .int x4), (5, .int x5), (6, .int x6)] [] h := by
  unfold f_X1_leads_b93 at H
  refine x_iinc 6 (x6 + (1 : Int32)) [1, 2, 3, 4, 5, 6, 0] dX1_leads_93 rfl (ii_1 _) (by first | decide | (dsimp only [mi_X1_leads]; decide)) rfl ?_
  refine x_goto (tgt := 19) dX1_leads_96 (by first | decide | (dsimp only [mi_X1_leads]; decide)) ?_
  exact hkb _ _ _ _ _ _ _ _ H
def f_X1_leads_L19 (rc_X1_leads : Nat → Int32 → Int32 → Int32 → Int32 → Int32 → mH → Option (Int32 × mH)) : Nat → Nat → Int32 → Int32 → Int32 → Int32 → Int32 → Int32 → mH → Option (Int32 × mH)
  | 0, _, _, _, _, _, _, _, _ => none
  | n + 1, r0, x1, x2, x3, x4, x5, x6, h => if gC h r0 = 0 then bR (f_X1_persons r0  h) fun a2 g2 => if a2 ≤ x6 then some ((0 : Int32), g2) else if x6 = x4 then f_X1_leads_b93 rc_X1_leads (f_X1_leads_L19 rc_X1_leads n) r0 x1 x2 x3 x4 x5 x6 g2 else bR (f_X1_isOf x5 x6 g2) fun a5 g5 => if a5 = 0 then (gFr [0] 4 g5 r0).bind fun v7 => if gC g5 v7 = 2 then bR (f_X3_may v7 x3 x6 g5) fun a8 g8 => if a8 = 0 then f_X1_leads_b93 rc_X1_leads (f_X1_leads_L19 rc_X1_leads n) r0 x1 x2 x3 x4 x5 x6 g8 else (gFr [0] 14 g8 r0).bind fun v10 => (sI .int g8 v10 x1 x6).bind fun h11 => if gC h11 r0 = 0 then bR (rc_X1_leads r0 (x1 + (1 : Int32)) x2 x6 x4 (x5 ||| ((1 : Int32) <<< (x6 &&& 31))) h11) fun a12 g12 => if a12 = 0 then f_X1_leads_b93 rc_X1_leads (f_X1_leads_L19 rc_X1_leads n) r0 x1 x2 x3 x4 x5 x6 g12 else some ((1 : Int32), g12) else none else none else f_X1_leads_b93 rc_X1_leads (f_X1_leads_L19 rc_X1_leads n) r0 x1 x2 x3 x4 x5 x6 g5 else none
theorem t_X1_leads_L19 {G : xG} {C : xC} {d : Nat} {rc_X1_leads : Nat → Int32 → Int32 → Int32 → Int32 → Int32 → mH → Option (Int32 × mH)} (hrc_X1_leads : ∀ {l : Launch} {r0 : Nat} {x1 : Int32} {x2 : Int32} {x3 : Int32} {x4 : Int32} {x5 : Int32} (h : mH) {o : Int32 × mH}, rc_X1_leads r0 x1 x2 x3 x4 x5 h = some o → XR G l (mi_X1_leads d) [.ref r0, .int x1, .int x2, .int x3, .int x4, .int x5] h (some (.int o.1)) o.2) {o : Int32 × mH} (hE : xEnd G C (some (.int o.1)) o.2) : ∀ (n : Nat) (r0 : Nat) (x1 : Int32) (x2 : Int32) (x3 : Int32) (x4 : Int32) (x5 : Int32) (x6 : Int32) (h : mH), f_X1_leads_L19 rc_X1_leads n r0 x1 x2 x3 x4 x5 x6 h = some o → X G C (mi_X1_leads (d + 1)) 19 [(0, .ref r0), (1, .int x1), (2, .int x2), (3, .int x3), (4, .int x4), (5, .int x5), (6, .int x6)] [] h := by
  intro n
  induction n with
  | zero => intro r0 x1 x2 x3 x4 x5 x6 h H; exact nomatch (show (none : Option (Int32 × mH)) = some o from H)
  | succ n ih =>
    intro r0 x1 x2 x3 x4 x5 x6 h H
    rw [f_X1_leads_L19] at H
    refine x_iload 6 rfl dX1_leads_19 ?_
    refine x_aload_n 0 rfl dX1_leads_21 ?_
    obtain ⟨c2, H⟩ := oit H
    obtain ⟨a2, g2, e2, H⟩ := obR H
    refine x_callV (M' := mi_X1_persons) (n := 0) (As := []) (t_X1_persons C _ e2) c2 rfl rfl md_X1_persons ⟨by show 2 + 1 ≤ 8 + (d + 1); omega, Nat.le_of_ble_eq_true rfl⟩ q1140 q1142 qs22 q120 q1143 rfl (Nat.le_of_ble_eq_true rfl) dX1_leads_22 ?_
    refine x_icmp_ge 99 dX1_leads_25 (by first | decide | (dsimp only [mi_X1_leads]; decide)) (fun c3 => ?_) (fun c3 => ?_)
    · rw [if_pos c3] at H
      refine x_iconst (0 : Int32) dX1_leads_99 ic_0 ?_
      obtain rfl := Option.some.inj H
      exact x_iret hE rfl rfl dX1_leads_100
    · rw [if_neg c3] at H
      refine x_iload 6 rfl dX1_leads_28 ?_
      refine x_iload 4 rfl dX1_leads_30 ?_
      refine x_icmp_eq 93 dX1_leads_32 (by first | decide | (dsimp only [mi_X1_leads]; decide)) (fun c4 => ?_) (fun c4 => ?_)
      · rw [if_pos c4] at H
        exact t_X1_leads_b93 hrc_X1_leads hE ih _ _ _ _ _ _ _ _ H
      · rw [if_neg c4] at H
        refine x_iload 5 rfl dX1_leads_35 ?_
        refine x_iload 6 rfl dX1_leads_37 ?_
        obtain ⟨a5, g5, e5, H⟩ := obR H
        refine x_callS (M' := mi_X1_isOf) (n := 2) (As := [.int x5, .int x6]) (t_X1_isOf C _ e5) md_X1_isOf ⟨by show 1 + 1 ≤ 8 + (d + 1); omega, Nat.le_of_ble_eq_true rfl⟩ q1378 q1080 q120 q1081 rfl (Nat.le_of_ble_eq_true rfl) dX1_leads_39 ?_
        refine x_if_ne 93 dX1_leads_42 (by first | decide | (dsimp only [mi_X1_leads]; decide)) (fun c6 => ?_) (fun c6 => ?_)
        · rw [if_neg c6] at H
          exact t_X1_leads_b93 hrc_X1_leads hE ih _ _ _ _ _ _ _ _ H
        · rw [if_pos c6] at H
          refine x_aload_n 0 rfl dX1_leads_45 ?_
          obtain ⟨v7, e7, H⟩ := ob H
          refine x_getf fg_X1_36 (gFr_spec e7) dX1_leads_46 ?_
          refine x_iload_n 3 rfl dX1_leads_49 ?_
          refine x_iload 6 rfl dX1_leads_50 ?_
          obtain ⟨c8, H⟩ := oit H
          obtain ⟨a8, g8, e8, H⟩ := obR H
          refine x_callV (M' := mi_X3_may) (n := 2) (As := [.int x3, .int x6]) (t_X3_may C _ e8) c8 rfl rfl md_X3_may ⟨by show 7 + 1 ≤ 8 + (d + 1); omega, Nat.le_of_ble_eq_true rfl⟩ q1383 q1232 q1233 q125 q1234 rfl (Nat.le_of_ble_eq_true rfl) dX1_leads_52 ?_
          refine x_if_ne 61 dX1_leads_55 (by first | decide | (dsimp only [mi_X1_leads]; decide)) (fun c9 => ?_) (fun c9 => ?_)
          · rw [if_neg c9] at H
            refine x_aload_n 0 rfl dX1_leads_61 ?_
            obtain ⟨v10, e10, H⟩ := ob H
            refine x_getf fg_X1_61 (gFr_spec e10) dX1_leads_62 ?_
            refine x_iload_n 1 rfl dX1_leads_65 ?_
            refine x_iload 6 rfl dX1_leads_66 ?_
            obtain ⟨h11, e11, H⟩ := ob H
            refine x_iast e11 dX1_leads_68 ?_
            refine x_aload_n 0 rfl dX1_leads_69 ?_
            refine x_iload_n 1 rfl dX1_leads_70 ?_
            refine x_iconst (1 : Int32) dX1_leads_71 ic_1 ?_
            refine x_iadd dX1_leads_72 ?_
            refine x_iload_n 2 rfl dX1_leads_73 ?_
            refine x_iload 6 rfl dX1_leads_74 ?_
            refine x_iload 4 rfl dX1_leads_76 ?_
            refine x_iload 5 rfl dX1_leads_78 ?_
            refine x_iconst (1 : Int32) dX1_leads_80 ic_1 ?_
            refine x_iload 6 rfl dX1_leads_81 ?_
            refine x_ishl dX1_leads_83 ?_
            refine x_ior dX1_leads_84 ?_
            obtain ⟨c12, H⟩ := oit H
            obtain ⟨a12, g12, e12, H⟩ := obR H
            refine x_callV (M' := (mi_X1_leads d)) (n := 5) (As := [.int (x1 + (1 : Int32)), .int x2, .int x6, .int x4, .int (x5 ||| ((1 : Int32) <<< (x6 &&& 31)))]) (hrc_X1_leads _ e12) c12 rfl rfl (md_X1_leads d) ⟨by show 8 + d + 1 ≤ 8 + (d + 1); omega, Nat.le_of_ble_eq_true rfl⟩ q1427 q1429 qs32 q120 q1430 rfl (Nat.le_of_ble_eq_true rfl) dX1_leads_85 ?_
            refine x_if_eq 93 dX1_leads_88 (by first | decide | (dsimp only [mi_X1_leads]; decide)) (fun c13 => ?_) (fun c13 => ?_)
            · rw [if_pos c13] at H
              exact t_X1_leads_b93 hrc_X1_leads hE ih _ _ _ _ _ _ _ _ H
            · rw [if_neg c13] at H
              refine x_iconst (1 : Int32) dX1_leads_91 ic_1 ?_
              obtain rfl := Option.some.inj H
              exact x_iret hE rfl rfl dX1_leads_92
          · rw [if_pos c9] at H
            refine x_goto (tgt := 93) dX1_leads_58 (by first | decide | (dsimp only [mi_X1_leads]; decide)) ?_
            exact t_X1_leads_b93 hrc_X1_leads hE ih _ _ _ _ _ _ _ _ H
def fb_X1_leads (rc_X1_leads : Nat → Int32 → Int32 → Int32 → Int32 → Int32 → mH → Option (Int32 × mH)) (r0 : Nat) (x1 : Int32) (x2 : Int32) (x3 : Int32) (x4 : Int32) (x5 : Int32) (h : mH) : Option (Int32 × mH) := if x1 = x2 then (gFr [0] 4 h r0).bind fun v14 => if gC h v14 = 2 then bR (f_X3_may v14 x3 x4 h) fun a15 g15 => rZ a15 g15 else none else f_X1_leads_L19 rc_X1_leads  xFu r0 x1 x2 x3 x4 x5 (0 : Int32) h
theorem tb_X1_leads {G : xG} (C0 : xC) {d : Nat} {rc_X1_leads : Nat → Int32 → Int32 → Int32 → Int32 → Int32 → mH → Option (Int32 × mH)} (hrc_X1_leads : ∀ {l : Launch} {r0 : Nat} {x1 : Int32} {x2 : Int32} {x3 : Int32} {x4 : Int32} {x5 : Int32} (h : mH) {o : Int32 × mH}, rc_X1_leads r0 x1 x2 x3 x4 x5 h = some o → XR G l (mi_X1_leads d) [.ref r0, .int x1, .int x2, .int x3, .int x4, .int x5] h (some (.int o.1)) o.2) {l : Launch} {r0 : Nat} {x1 : Int32} {x2 : Int32} {x3 : Int32} {x4 : Int32} {x5 : Int32} (h : mH) {o : Int32 × mH} (H : fb_X1_leads rc_X1_leads r0 x1 x2 x3 x4 x5 h = some o) : XR G l (mi_X1_leads (d + 1)) [.ref r0, .int x1, .int x2, .int x3, .int x4, .int x5] h (some (.int o.1)) o.2 := by
  refine XR.of C0 (by first | decide | (dsimp only [mi_X1_leads]; decide)) (Nat.le_of_ble_eq_true rfl) (fun C _ _ _ hE => ?_)
  show X G C (mi_X1_leads (d + 1)) 0 [(0, .ref r0), (1, .int x1), (2, .int x2), (3, .int x3), (4, .int x4), (5, .int x5)] [] h
  unfold fb_X1_leads at H
  refine x_iload_n 1 rfl dX1_leads_0 ?_
  refine x_iload_n 2 rfl dX1_leads_1 ?_
  refine x_icmp_ne 16 dX1_leads_2 (by first | decide | (dsimp only [mi_X1_leads]; decide)) (fun c1 => ?_) (fun c1 => ?_)
  · rw [if_neg c1] at H
    refine x_iconst (0 : Int32) dX1_leads_16 ic_0 ?_
    refine x_istore [1, 2, 3, 4, 5, 6, 0] dX1_leads_17 (by first | decide | (dsimp only [mi_X1_leads]; decide)) rfl ?_
    exact t_X1_leads_L19 hrc_X1_leads hE  xFu _ _ _ _ _ _ _ _ H
  · rw [if_pos c1] at H
    refine x_aload_n 0 rfl dX1_leads_5 ?_
    obtain ⟨v14, e14, H⟩ := ob H
    refine x_getf fg_X1_36 (gFr_spec e14) dX1_leads_6 ?_
    refine x_iload_n 3 rfl dX1_leads_9 ?_
    refine x_iload 4 rfl dX1_leads_10 ?_
    obtain ⟨c15, H⟩ := oit H
    obtain ⟨a15, g15, e15, H⟩ := obR H
    refine x_callV (M' := mi_X3_may) (n := 2) (As := [.int x3, .int x4]) (t_X3_may C _ e15) c15 rfl rfl md_X3_may ⟨by show 7 + 1 ≤ 8 + (d + 1); omega, Nat.le_of_ble_eq_true rfl⟩ q1383 q1232 q1233 q125 q1234 rfl (Nat.le_of_ble_eq_true rfl) dX1_leads_12 ?_
    obtain ⟨c, rfl⟩ := rZ_spec H
    exact x_iret hE rfl c dX1_leads_15
def f_X1_leads : Nat → Nat → Int32 → Int32 → Int32 → Int32 → Int32 → mH → Option (Int32 × mH)
  | 0, _, _, _, _, _, _, _ => none
  | d + 1, r0, x1, x2, x3, x4, x5, h => fb_X1_leads (f_X1_leads d) r0 x1 x2 x3 x4 x5 h
theorem t_X1_leads {G : xG} (C0 : xC) : ∀ (d : Nat), ∀ {l : Launch} {r0 : Nat} {x1 : Int32} {x2 : Int32} {x3 : Int32} {x4 : Int32} {x5 : Int32} (h : mH) {o : Int32 × mH}, f_X1_leads d r0 x1 x2 x3 x4 x5 h = some o → XR G l (mi_X1_leads d) [.ref r0, .int x1, .int x2, .int x3, .int x4, .int x5] h (some (.int o.1)) o.2 := by
  intro d
  induction d with
  | zero => intro l r0 x1 x2 x3 x4 x5 h o H; exact nomatch (show (none : Option (Int32 × mH)) = some o from H)
  | succ d ih => intro l r0 x1 x2 x3 x4 x5 h o H; exact tb_X1_leads C0 ih h H
abbrev mi_X1_chain : xM := (cX1_chain, yX1_chain, 4, some .int, 25)
theorem md_X1_chain : xMD mi_X1_chain 2 := ⟨by decide, by decide, by decide +kernel⟩
def f_X1_chain_b52 (r0 : Nat) (x3 : Int32) (h : mH) : Option (Int32 × mH) := (gFr [0] 14 h r0).bind fun v6 => (gFr [0] 15 h r0).bind fun v7 => (cpA h v6 (0 : Int32) v7 (0 : Int32) x3).bind fun h8 => (pF [0] 16 (.int x3) h8 r0).bind fun h9 => some (x3, h9)
theorem t_X1_chain_b52 {G : xG} {C : xC} {o : Int32 × mH} (hE : xEnd G C (some (.int o.1)) o.2) (r0 : Nat) (x3 : Int32) (h : mH) (H : f_X1_chain_b52 r0 x3 h = some o) : X G C mi_X1_chain 52 [(0, .ref r0), (3, .int x3)] [] h := by
  unfold f_X1_chain_b52 at H
  refine x_aload_n 0 rfl dX1_chain_52 ?_
  obtain ⟨v6, e6, H⟩ := ob H
  refine x_getf fg_X1_61 (gFr_spec e6) dX1_chain_53 ?_
  refine x_iconst (0 : Int32) dX1_chain_56 ic_0 ?_
  refine x_aload_n 0 rfl dX1_chain_57 ?_
  obtain ⟨v7, e7, H⟩ := ob H
  refine x_getf fg_X1_64 (gFr_spec e7) dX1_chain_58 ?_
  refine x_iconst (0 : Int32) dX1_chain_61 ic_0 ?_
  refine x_iload_n 1 rfl dX1_chain_62 ?_
  obtain ⟨h8, e8, H⟩ := ob H
  refine x_copy q1431 q349 q348 q129 e8 (by decide) (Nat.le_of_ble_eq_true rfl) dX1_chain_63 ?_
  refine x_aload_n 0 rfl dX1_chain_66 ?_
  refine x_iload_n 1 rfl dX1_chain_67 ?_
  obtain ⟨h9, e9, H⟩ := ob H
  refine x_putf (fp_X1_318 _) rfl rfl e9 dX1_chain_68 ?_
  refine x_iload_n 1 rfl dX1_chain_71 ?_
  obtain rfl := Option.some.inj H
  exact x_iret hE rfl rfl dX1_chain_72
def f_X1_chain_L25 (k52 : Nat → Int32 → mH → Option (Int32 × mH)) : Nat → Nat → Int32 → Int32 → Int32 → mH → Option (Int32 × mH)
  | 0, _, _, _, _, _ => none
  | n + 1, r0, x1, x2, x3, h => if gC h r0 = 0 then bR (f_X1_persons r0  h) fun a10 g10 => if (a10 - (1 : Int32)) ≤ x3 then some ((-1 : Int32), g10) else if gC g10 r0 = 0 then bR (f_X1_leads 16 r0 (0 : Int32) x3 x1 x2 ((1 : Int32) <<< (x1 &&& 31)) g10) fun a12 g12 => if a12 = 0 then (f_X1_chain_L25 k52 n) r0 x1 x2 (x3 + (1 : Int32)) g12 else k52 r0 x3 g12 else none else none
theorem t_X1_chain_L25 {G : xG} {C : xC} {o : Int32 × mH} (hE : xEnd G C (some (.int o.1)) o.2) {k52 : Nat → Int32 → mH → Option (Int32 × mH)} (hk52 : ∀ (r0 : Nat) (x3 : Int32) (h : mH), k52 r0 x3 h = some o → X G C mi_X1_chain 52 [(0, .ref r0), (3, .int x3)] [] h) : ∀ (n : Nat) (r0 : Nat) (x1 : Int32) (x2 : Int32) (x3 : Int32) (h : mH), f_X1_chain_L25 k52 n r0 x1 x2 x3 h = some o → X G C mi_X1_chain 25 [(0, .ref r0), (1, .int x1), (2, .int x2), (3, .int x3)] [] h := by
  intro n
  induction n with
  | zero => intro r0 x1 x2 x3 h H; exact nomatch (show (none : Option (Int32 × mH)) = some o from H)
  | succ n ih =>
    intro r0 x1 x2 x3 h H
    rw [f_X1_chain_L25] at H
    refine x_iload_n 3 rfl dX1_chain_25 ?_
    refine x_aload_n 0 rfl dX1_chain_26 ?_
    obtain ⟨c10, H⟩ := oit H
    obtain ⟨a10, g10, e10, H⟩ := obR H
    refine x_callV (M' := mi_X1_persons) (n := 0) (As := []) (t_X1_persons C _ e10) c10 rfl rfl md_X1_persons ⟨Nat.le_of_ble_eq_true rfl, Nat.le_of_ble_eq_true rfl⟩ q1140 q1142 qs22 q120 q1143 rfl (Nat.le_of_ble_eq_true rfl) dX1_chain_27 ?_
    refine x_iconst (1 : Int32) dX1_chain_30 ic_1 ?_
    refine x_isub dX1_chain_31 ?_
    refine x_icmp_ge 79 dX1_chain_32 (by decide) (fun c11 => ?_) (fun c11 => ?_)
    · rw [if_pos c11] at H
      refine x_iconst (-1 : Int32) dX1_chain_79 ic_m1 ?_
      obtain rfl := Option.some.inj H
      exact x_iret hE rfl rfl dX1_chain_80
    · rw [if_neg c11] at H
      refine x_aload_n 0 rfl dX1_chain_35 ?_
      refine x_iconst (0 : Int32) dX1_chain_36 ic_0 ?_
      refine x_iload_n 3 rfl dX1_chain_37 ?_
      refine x_iload_n 1 rfl dX1_chain_38 ?_
      refine x_iload_n 2 rfl dX1_chain_39 ?_
      refine x_iconst (1 : Int32) dX1_chain_40 ic_1 ?_
      refine x_iload_n 1 rfl dX1_chain_41 ?_
      refine x_ishl dX1_chain_42 ?_
      obtain ⟨c12, H⟩ := oit H
      obtain ⟨a12, g12, e12, H⟩ := obR H
      refine x_callV (M' := (mi_X1_leads 16)) (n := 5) (As := [.int (0 : Int32), .int x3, .int x1, .int x2, .int ((1 : Int32) <<< (x1 &&& 31))]) (t_X1_leads C 16 _ e12) c12 rfl rfl (md_X1_leads 16) ⟨Nat.le_of_ble_eq_true rfl, Nat.le_of_ble_eq_true rfl⟩ q1427 q1429 qs32 q120 q1430 rfl (Nat.le_of_ble_eq_true rfl) dX1_chain_43 ?_
      refine x_if_ne 52 dX1_chain_46 (by decide) (fun c13 => ?_) (fun c13 => ?_)
      · rw [if_neg c13] at H
        refine X.sub [0, 3] rfl ?_
        exact hk52 _ _ _ H
      · rw [if_pos c13] at H
        refine x_goto (tgt := 73) dX1_chain_49 (by decide) ?_
        refine x_iinc 3 (x3 + (1 : Int32)) [1, 2, 3, 0] dX1_chain_73 rfl (ii_1 _) (by decide) rfl ?_
        refine x_goto (tgt := 25) dX1_chain_76 (by decide) ?_
        exact ih _ _ _ _ _ H
def f_X1_chain (r0 : Nat) (x1 : Int32) (x2 : Int32) (h : mH) : Option (Int32 × mH) := if gC h r0 = 0 then bR (f_X1_isPerson r0 x1 h) fun a1 g1 => if a1 = 0 then some ((-1 : Int32), g1) else if gC g1 r0 = 0 then bR (f_X1_isPerson r0 x2 g1) fun a3 g3 => if a3 = 0 then some ((-1 : Int32), g3) else if x1 = x2 then some ((-1 : Int32), g3) else f_X1_chain_L25 (f_X1_chain_b52) xFu r0 x1 x2 (0 : Int32) g3 else none else none
theorem t_X1_chain {G : xG} (C0 : xC) {l : Launch} {r0 : Nat} {x1 : Int32} {x2 : Int32} (h : mH) {o : Int32 × mH} (H : f_X1_chain r0 x1 x2 h = some o) : XR G l mi_X1_chain [.ref r0, .int x1, .int x2] h (some (.int o.1)) o.2 := by
  refine XR.of C0 (by decide) (Nat.le_of_ble_eq_true rfl) (fun C _ _ _ hE => ?_)
  show X G C mi_X1_chain 0 [(0, .ref r0), (1, .int x1), (2, .int x2)] [] h
  unfold f_X1_chain at H
  refine x_aload_n 0 rfl dX1_chain_0 ?_
  refine x_iload_n 1 rfl dX1_chain_1 ?_
  obtain ⟨c1, H⟩ := oit H
  obtain ⟨a1, g1, e1, H⟩ := obR H
  refine x_callV (M' := mi_X1_isPerson) (n := 1) (As := [.int x1]) (t_X1_isPerson C _ e1) c1 rfl rfl md_X1_isPerson ⟨Nat.le_of_ble_eq_true rfl, Nat.le_of_ble_eq_true rfl⟩ q1108 q1110 qs19 q120 q1111 rfl (Nat.le_of_ble_eq_true rfl) dX1_chain_2 ?_
  refine x_if_eq 21 dX1_chain_5 (by decide) (fun c2 => ?_) (fun c2 => ?_)
  · rw [if_pos c2] at H
    refine x_iconst (-1 : Int32) dX1_chain_21 ic_m1 ?_
    obtain rfl := Option.some.inj H
    exact x_iret hE rfl rfl dX1_chain_22
  · rw [if_neg c2] at H
    refine x_aload_n 0 rfl dX1_chain_8 ?_
    refine x_iload_n 2 rfl dX1_chain_9 ?_
    obtain ⟨c3, H⟩ := oit H
    obtain ⟨a3, g3, e3, H⟩ := obR H
    refine x_callV (M' := mi_X1_isPerson) (n := 1) (As := [.int x2]) (t_X1_isPerson C _ e3) c3 rfl rfl md_X1_isPerson ⟨Nat.le_of_ble_eq_true rfl, Nat.le_of_ble_eq_true rfl⟩ q1108 q1110 qs19 q120 q1111 rfl (Nat.le_of_ble_eq_true rfl) dX1_chain_10 ?_
    refine x_if_eq 21 dX1_chain_13 (by decide) (fun c4 => ?_) (fun c4 => ?_)
    · rw [if_pos c4] at H
      refine x_iconst (-1 : Int32) dX1_chain_21 ic_m1 ?_
      obtain rfl := Option.some.inj H
      exact x_iret hE rfl rfl dX1_chain_22
    · rw [if_neg c4] at H
      refine x_iload_n 1 rfl dX1_chain_16 ?_
      refine x_iload_n 2 rfl dX1_chain_17 ?_
      refine x_icmp_ne 23 dX1_chain_18 (by decide) (fun c5 => ?_) (fun c5 => ?_)
      · rw [if_neg c5] at H
        refine x_iconst (0 : Int32) dX1_chain_23 ic_0 ?_
        refine x_istore_n [1, 2, 3, 0] dX1_chain_24 (by decide) rfl ?_
        exact t_X1_chain_L25 hE (t_X1_chain_b52 hE) xFu _ _ _ _ _ H
      · rw [if_pos c5] at H
        refine x_iconst (-1 : Int32) dX1_chain_21 ic_m1 ?_
        obtain rfl := Option.some.inj H
        exact x_iret hE rfl rfl dX1_chain_22
abbrev mi_X1_chainAt : xM := (cX1_chainAt, yX1_chainAt, 2, some .int, 2)
theorem md_X1_chainAt : xMD mi_X1_chainAt 1 := ⟨by decide, by decide, by decide +kernel⟩
def f_X1_chainAt (r0 : Nat) (x1 : Int32) (h : mH) : Option (Int32 × mH) := (gFi [0] 16 h r0).bind fun v1 => bR (f_X1_isIn x1 (0 : Int32) (v1 - (1 : Int32)) h) fun a2 g2 => if a2 = 0 then some ((-1 : Int32), g2) else (gFr [0] 15 g2 r0).bind fun v4 => (aI .int g2 v4 x1).bind fun v5 => some (v5, g2)
theorem t_X1_chainAt {G : xG} (C0 : xC) {l : Launch} {r0 : Nat} {x1 : Int32} (h : mH) {o : Int32 × mH} (H : f_X1_chainAt r0 x1 h = some o) : XR G l mi_X1_chainAt [.ref r0, .int x1] h (some (.int o.1)) o.2 := by
  refine XR.of C0 (by decide) (Nat.le_of_ble_eq_true rfl) (fun C _ _ _ hE => ?_)
  show X G C mi_X1_chainAt 0 [(0, .ref r0), (1, .int x1)] [] h
  unfold f_X1_chainAt at H
  refine x_iload_n 1 rfl dX1_chainAt_0 ?_
  refine x_iconst (0 : Int32) dX1_chainAt_1 ic_0 ?_
  refine x_aload_n 0 rfl dX1_chainAt_2 ?_
  obtain ⟨v1, e1, H⟩ := ob H
  refine x_getf fg_X1_318 (gFi_spec e1) dX1_chainAt_3 ?_
  refine x_iconst (1 : Int32) dX1_chainAt_6 ic_1 ?_
  refine x_isub dX1_chainAt_7 ?_
  obtain ⟨a2, g2, e2, H⟩ := obR H
  refine x_callS (M' := mi_X1_isIn) (n := 3) (As := [.int x1, .int (0 : Int32), .int (v1 - (1 : Int32))]) (t_X1_isIn C _ e2) md_X1_isIn ⟨Nat.le_of_ble_eq_true rfl, Nat.le_of_ble_eq_true rfl⟩ q1126 q921 q120 q922 rfl (Nat.le_of_ble_eq_true rfl) dX1_chainAt_8 ?_
  refine x_if_eq 23 dX1_chainAt_11 (by decide) (fun c3 => ?_) (fun c3 => ?_)
  · rw [if_pos c3] at H
    refine x_iconst (-1 : Int32) dX1_chainAt_23 ic_m1 ?_
    obtain rfl := Option.some.inj H
    exact x_iret hE rfl rfl dX1_chainAt_24
  · rw [if_neg c3] at H
    refine x_aload_n 0 rfl dX1_chainAt_14 ?_
    obtain ⟨v4, e4, H⟩ := ob H
    refine x_getf fg_X1_64 (gFr_spec e4) dX1_chainAt_15 ?_
    refine x_iload_n 1 rfl dX1_chainAt_18 ?_
    obtain ⟨v5, e5, H⟩ := ob H
    refine x_iald e5 dX1_chainAt_19 ?_
    refine x_goto (tgt := 24) dX1_chainAt_20 (by decide) ?_
    obtain rfl := Option.some.inj H
    exact x_iret hE rfl rfl dX1_chainAt_24
abbrev mi_X1_come : xM := (cX1_come, yX1_come, 3, none, 1)
theorem md_X1_come : xMD mi_X1_come 1 := ⟨by decide, by decide, by decide +kernel⟩
def f_X1_come_L3 : Nat → Nat → Int32 → Int32 → mH → Option (Unit × mH)
  | 0, _, _, _, _ => none
  | n + 1, r0, x1, x2, h => if x2 < 0 then some ((), h) else (gFr [0] 0 h r0).bind fun v2 => (gFi [0] 1 h r0).bind fun v3 => (sI .byte h v2 v3 ((x1 >>> (x2 &&& 31)).toInt8.toInt32)).bind fun h4 => (gFi [0] 1 h4 r0).bind fun v5 => (pF [0] 1 (.int (v5 + (1 : Int32))) h4 r0).bind fun h6 => (f_X1_come_L3 n) r0 x1 (x2 + (-8 : Int32)) h6
theorem t_X1_come_L3 {G : xG} {C : xC} {o : Unit × mH} (hE : xEnd G C none o.2) : ∀ (n : Nat) (r0 : Nat) (x1 : Int32) (x2 : Int32) (h : mH), f_X1_come_L3 n r0 x1 x2 h = some o → X G C mi_X1_come 3 [(0, .ref r0), (1, .int x1), (2, .int x2)] [] h := by
  intro n
  induction n with
  | zero => intro r0 x1 x2 h H; exact nomatch (show (none : Option (Unit × mH)) = some o from H)
  | succ n ih =>
    intro r0 x1 x2 h H
    rw [f_X1_come_L3] at H
    refine x_iload_n 2 rfl dX1_come_3 ?_
    refine x_if_lt 36 dX1_come_4 (by decide) (fun c1 => ?_) (fun c1 => ?_)
    · rw [if_pos c1] at H
      obtain rfl := Option.some.inj H
      exact x_vret hE rfl dX1_come_36
    · rw [if_neg c1] at H
      refine x_aload_n 0 rfl dX1_come_7 ?_
      obtain ⟨v2, e2, H⟩ := ob H
      refine x_getf fg_X1_18 (gFr_spec e2) dX1_come_8 ?_
      refine x_aload_n 0 rfl dX1_come_11 ?_
      obtain ⟨v3, e3, H⟩ := ob H
      refine x_getf fg_X1_86 (gFi_spec e3) dX1_come_12 ?_
      refine x_iload_n 1 rfl dX1_come_15 ?_
      refine x_iload_n 2 rfl dX1_come_16 ?_
      refine x_ishr dX1_come_17 ?_
      refine x_i2b dX1_come_18 ?_
      obtain ⟨h4, e4, H⟩ := ob H
      refine x_bast e4 dX1_come_19 ?_
      refine x_aload_n 0 rfl dX1_come_20 ?_
      refine x_dup dX1_come_21 rfl ?_
      obtain ⟨v5, e5, H⟩ := ob H
      refine x_getf fg_X1_86 (gFi_spec e5) dX1_come_22 ?_
      refine x_iconst (1 : Int32) dX1_come_25 ic_1 ?_
      refine x_iadd dX1_come_26 ?_
      obtain ⟨h6, e6, H⟩ := ob H
      refine x_putf (fp_X1_86 _) rfl rfl e6 dX1_come_27 ?_
      refine x_iinc 2 (x2 + (-8 : Int32)) [1, 2, 0] dX1_come_30 rfl (ii_m8 _) (by decide) rfl ?_
      refine x_goto (tgt := 3) dX1_come_33 (by decide) ?_
      exact ih _ _ _ _ H
def f_X1_come (r0 : Nat) (x1 : Int32) (h : mH) : Option (Unit × mH) := f_X1_come_L3  xFu r0 x1 (24 : Int32) h
theorem t_X1_come {G : xG} (C0 : xC) {l : Launch} {r0 : Nat} {x1 : Int32} (h : mH) {o : Unit × mH} (H : f_X1_come r0 x1 h = some o) : XR G l mi_X1_come [.ref r0, .int x1] h none o.2 := by
  refine XR.of C0 (by decide) (Nat.le_of_ble_eq_true rfl) (fun C _ _ _ hE => ?_)
  show X G C mi_X1_come 0 [(0, .ref r0), (1, .int x1)] [] h
  unfold f_X1_come at H
  refine x_bipush (24 : Int32) dX1_come_0 bi_24 ?_
  refine x_istore_n [1, 2, 0] dX1_come_2 (by decide) rfl ?_
  exact t_X1_come_L3 hE  xFu _ _ _ _ H
