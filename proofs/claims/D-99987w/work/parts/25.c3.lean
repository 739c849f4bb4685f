set_option maxRecDepth 100000
set_option maxHeartbeats 4000000
abbrev mi_J2_add_2 : xM := (cJ2_add_2, yJ2_add_2, 4, none, 6)
theorem md_J2_add_2 : xMD mi_J2_add_2 3 := ⟨by decide, by decide, by decide +kernel⟩
def f_J2_add_2_b11 (r0 : Nat) (r1 : Nat) (r2 : Nat) (x3 : Int32) (h : mH) : Option (Unit × mH) := (sR "java/lang/Object" [0, 1, 2, 3, 4, 5, 6, 7, 8, 9, 10, 11, 12, 13, 14, 15, 16, 17, 18, 19, 20, 21, 22, 23] h r2 x3 r1).bind fun h3 => (pF [21] 2 (.int (x3 + (1 : Int32))) h3 r0).bind fun h4 => some ((), h4)
theorem t_J2_add_2_b11 {G : xG} {C : xC} {o : Unit × mH} (hE : xEnd G C none o.2) (r0 : Nat) (r1 : Nat) (r2 : Nat) (x3 : Int32) (h : mH) (H : f_J2_add_2_b11 r0 r1 r2 x3 h = some o) : X G C mi_J2_add_2 11 [(0, .ref r0), (1, .ref r1), (2, .ref r2), (3, .int x3)] [] h := by
  unfold f_J2_add_2_b11 at H
  refine x_aload_n 2 rfl dJ2_add_2_11 ?_
  refine x_iload_n 3 rfl dJ2_add_2_12 ?_
  refine x_aload_n 1 rfl dJ2_add_2_13 ?_
  obtain ⟨h3, e3, H⟩ := ob H
  refine x_aast (by decide) cs_java_lang_Object e3 dJ2_add_2_14 ?_
  refine x_aload_n 0 rfl dJ2_add_2_15 ?_
  refine x_iload_n 3 rfl dJ2_add_2_16 ?_
  refine x_iconst (1 : Int32) dJ2_add_2_17 ic_1 ?_
  refine x_iadd dJ2_add_2_18 ?_
  obtain ⟨h4, e4, H⟩ := ob H
  refine x_putf (fp_J2_48 _) rfl rfl e4 dJ2_add_2_19 ?_
  obtain rfl := Option.some.inj H
  exact x_vret hE rfl dJ2_add_2_22
def f_J2_add_2 (r0 : Nat) (r1 : Nat) (r2 : Nat) (x3 : Int32) (h : mH) : Option (Unit × mH) := (aN h r2).bind fun v1 => if x3 = v1 then if gC h r0 = 21 then bR (f_J2_grow r0  h) fun a5 g5 => f_J2_add_2_b11 r0 r1 a5 x3 g5 else none else f_J2_add_2_b11 r0 r1 r2 x3 h
theorem t_J2_add_2 {G : xG} (C0 : xC) {l : Launch} {r0 : Nat} {r1 : Nat} {r2 : Nat} {x3 : Int32} (h : mH) {o : Unit × mH} (H : f_J2_add_2 r0 r1 r2 x3 h = some o) : XR G l mi_J2_add_2 [.ref r0, .ref r1, .ref r2, .int x3] h none o.2 := by
  refine XR.of C0 (by decide) (Nat.le_of_ble_eq_true rfl) (fun C _ _ _ hE => ?_)
  show X G C mi_J2_add_2 0 [(0, .ref r0), (1, .ref r1), (2, .ref r2), (3, .int x3)] [] h
  unfold f_J2_add_2 at H
  refine x_iload_n 3 rfl dJ2_add_2_0 ?_
  refine x_aload_n 2 rfl dJ2_add_2_1 ?_
  obtain ⟨v1, e1, H⟩ := ob H
  refine x_alen e1 dJ2_add_2_2 ?_
  refine x_icmp_ne 11 dJ2_add_2_3 (by decide) (fun c2 => ?_) (fun c2 => ?_)
  · rw [if_neg c2] at H
    exact t_J2_add_2_b11 hE _ _ _ _ _ H
  · rw [if_pos c2] at H
    refine x_aload_n 0 rfl dJ2_add_2_6 ?_
    obtain ⟨c5, H⟩ := oit H
    obtain ⟨a5, g5, e5, H⟩ := obR H
    refine x_callV (M' := mi_J2_grow) (n := 0) (As := []) (t_J2_grow C _ e5) c5 rfl rfl md_J2_grow ⟨Nat.le_of_ble_eq_true rfl, Nat.le_of_ble_eq_true rfl⟩ q977 q979 qs10 q124 q980 rfl (Nat.le_of_ble_eq_true rfl) dJ2_add_2_7 ?_
    refine x_astore_n [1, 2, 0, 3] dJ2_add_2_10 (by decide) rfl ?_
    exact t_J2_add_2_b11 hE _ _ _ _ _ H
abbrev mi_J2_add : xM := (cJ2_add, yJ2_add, 2, some .boolean, 7)
theorem md_J2_add : xMD mi_J2_add 1 := ⟨by decide, by decide, by decide +kernel⟩
def f_J2_add (r0 : Nat) (r1 : Nat) (h : mH) : Option (Int32 × mH) := (gFi [21] 0 h r0).bind fun v1 => (pF [21] 0 (.int (v1 + (1 : Int32))) h r0).bind fun h2 => (gFr [21] 1 h2 r0).bind fun v3 => (gFi [21] 2 h2 r0).bind fun v4 => if gC h2 r0 = 21 then bR (f_J2_add_2 r0 r1 v3 v4 h2) fun a5 g5 => some ((1 : Int32), g5) else none
theorem t_J2_add {G : xG} (C0 : xC) {l : Launch} {r0 : Nat} {r1 : Nat} (h : mH) {o : Int32 × mH} (H : f_J2_add r0 r1 h = some o) : XR G l mi_J2_add [.ref r0, .ref r1] h (some (.int o.1)) o.2 := by
  refine XR.of C0 (by decide) (Nat.le_of_ble_eq_true rfl) (fun C _ _ _ hE => ?_)
  show X G C mi_J2_add 0 [(0, .ref r0), (1, .ref r1)] [] h
  unfold f_J2_add at H
  refine x_aload_n 0 rfl dJ2_add_0 ?_
  refine x_dup dJ2_add_1 rfl ?_
  obtain ⟨v1, e1, H⟩ := ob H
  refine x_getf fg_J2_63 (gFi_spec e1) dJ2_add_2 ?_
  refine x_iconst (1 : Int32) dJ2_add_5 ic_1 ?_
  refine x_iadd dJ2_add_6 ?_
  obtain ⟨h2, e2, H⟩ := ob H
  refine x_putf (fp_J2_63 _) rfl rfl e2 dJ2_add_7 ?_
  refine x_aload_n 0 rfl dJ2_add_10 ?_
  refine x_aload_n 1 rfl dJ2_add_11 ?_
  refine x_aload_n 0 rfl dJ2_add_12 ?_
  obtain ⟨v3, e3, H⟩ := ob H
  refine x_getf fg_J2_9 (gFr_spec e3) dJ2_add_13 ?_
  refine x_aload_n 0 rfl dJ2_add_16 ?_
  obtain ⟨v4, e4, H⟩ := ob H
  refine x_getf fg_J2_48 (gFi_spec e4) dJ2_add_17 ?_
  obtain ⟨c5, H⟩ := oit H
  obtain ⟨a5, g5, e5, H⟩ := obR H
  refine x_callV (M' := mi_J2_add_2) (n := 3) (As := [.ref r1, .ref v3, .int v4]) (t_J2_add_2 C _ e5) c5 rfl rfl md_J2_add_2 ⟨Nat.le_of_ble_eq_true rfl, Nat.le_of_ble_eq_true rfl⟩ q973 q975 qs9 q124 q976 rfl (Nat.le_of_ble_eq_true rfl) dJ2_add_20 ?_
  refine x_iconst (1 : Int32) dJ2_add_23 ic_1 ?_
  obtain rfl := Option.some.inj H
  exact x_iret hE rfl rfl dJ2_add_24
abbrev mi_X6_end : xM := (cX6_end, yX6_end, 1, none, 10)
theorem md_X6_end : xMD mi_X6_end 0 := ⟨by decide, by decide, by decide +kernel⟩
def f_X6_end_b14 (r0 : Nat) (s0 : Nat) (s1 : Int32) (h : mH) : Option ((Unit ⊕ Nat) × mH) := if gC h s0 ∈ [5, 6, 7] then bT (f_X6_need s0 s1 (1 : Int32) h) fun v3 h3 => if gC h3 r0 ∈ [5, 6, 7] then bR (f_X6_go r0  h3) fun a4 g4 => some (.inl (), g4) else none else none
theorem t_X6_end_b14 {G : xG} {C : xC} {o : (Unit ⊕ Nat) × mH} (hE : xEndT G C [] (xoU "StrangerMarket$Fault" o.1) o.2) (r0 : Nat) (s0 : Nat) (s1 : Int32) (h : mH) (H : f_X6_end_b14 r0 s0 s1 h = some o) : X G C mi_X6_end 14 [(0, .ref r0)] [.int s1, .ref s0] h := by
  unfold f_X6_end_b14 at H
  refine x_iconst (1 : Int32) dX6_end_14 ic_1 ?_
  obtain ⟨c3, H⟩ := oit H
  rcases obT H with ⟨a3, h3, e3, rfl⟩ | ⟨v3, h3, e3, H⟩
  · exact x_goX (t_X6_need C _ e3) (x_rC (M' := mi_X6_need) (n := 2) (As := [.int s1, .int (1 : Int32)]) (t_X6_need C _ e3) c3 uc_X6_87 (by decide +kernel) ⟨Nat.le_of_ble_eq_true rfl, Nat.le_of_ble_eq_true rfl⟩ q749 rfl (Nat.le_of_ble_eq_true rfl) dX6_end_15) hE
  refine x_goR (r := none) (t_X6_need C _ e3) (x_rC (M' := mi_X6_need) (n := 2) (As := [.int s1, .int (1 : Int32)]) (t_X6_need C _ e3) c3 uc_X6_87 (by decide +kernel) ⟨Nat.le_of_ble_eq_true rfl, Nat.le_of_ble_eq_true rfl⟩ q749 rfl (Nat.le_of_ble_eq_true rfl) dX6_end_15) ?_
  refine x_aload_n 0 rfl dX6_end_18 ?_
  obtain ⟨c4, H⟩ := oit H
  obtain ⟨a4, g4, e4, H⟩ := obR H
  refine x_callC (M' := mi_X6_go) (n := 0) (As := []) (t_X6_go C _ e4) c4 uc_X6_95 (by decide +kernel) ⟨Nat.le_of_ble_eq_true rfl, Nat.le_of_ble_eq_true rfl⟩ q522 rfl (Nat.le_of_ble_eq_true rfl) dX6_end_19 ?_
  obtain rfl := Option.some.inj H
  exact x_vretT hE rfl dX6_end_22
def f_X6_end (r0 : Nat) (h : mH) : Option ((Unit ⊕ Nat) × mH) := (gFi [5, 6, 7] 4 h r0).bind fun v1 => if v1 = (4 : Int32) then f_X6_end_b14 r0 r0 (1 : Int32) h else f_X6_end_b14 r0 r0 (0 : Int32) h
theorem t_X6_end {G : xG} (C0 : xC) {l : Launch} {r0 : Nat} (h : mH) {o : (Unit ⊕ Nat) × mH} (H : f_X6_end r0 h = some o) : XT G l mi_X6_end [.ref r0] h (xoU "StrangerMarket$Fault" o.1) o.2 := by
  refine XT.of C0 (by decide) (Nat.le_of_ble_eq_true rfl) (fun C _ _ _ hE => ?_)
  show X G C mi_X6_end 0 [(0, .ref r0)] [] h
  unfold f_X6_end at H
  refine x_aload_n 0 rfl dX6_end_0 ?_
  refine x_aload_n 0 rfl dX6_end_1 ?_
  obtain ⟨v1, e1, H⟩ := ob H
  refine x_getf fg_X6_38 (gFi_spec e1) dX6_end_2 ?_
  refine x_iconst (4 : Int32) dX6_end_5 ic_4 ?_
  refine x_icmp_ne 13 dX6_end_6 (by decide) (fun c2 => ?_) (fun c2 => ?_)
  · rw [if_neg c2] at H
    refine x_iconst (0 : Int32) dX6_end_13 ic_0 ?_
    exact t_X6_end_b14 hE _ _ _ _ H
  · rw [if_pos c2] at H
    refine x_iconst (1 : Int32) dX6_end_9 ic_1 ?_
    refine x_goto (tgt := 14) dX6_end_10 (by decide) ?_
    exact t_X6_end_b14 hE _ _ _ _ H
abbrev mi_X17_read : xM := (cX17_read, yX17_read, 1, some (.object "java/util/ArrayList"), 16)
theorem md_X17_read : xMD mi_X17_read 0 := ⟨by decide, by decide, by decide +kernel⟩
def f_X17_read_b30 (r0 : Nat) (h : mH) : Option ((Nat ⊕ Nat) × mH) := (gFr [6] 10 h r0).bind fun v2 => some (.inl (v2), h)
theorem t_X17_read_b30 {G : xG} {C : xC} {o : (Nat ⊕ Nat) × mH} (hE : xEndT G C [] (xoA "StrangerMarket$Fault" o.1) o.2) (r0 : Nat) (h : mH) (H : f_X17_read_b30 r0 h = some o) : X G C mi_X17_read 30 [(0, .ref r0)] [] h := by
  unfold f_X17_read_b30 at H
  refine x_aload_n 0 rfl dX17_read_30 ?_
  obtain ⟨v2, e2, H⟩ := ob H
  refine x_getf fg_X17_14 (gFr_spec e2) dX17_read_31 ?_
  obtain rfl := Option.some.inj H
  exact x_aretT hE rfl (by first | exact Or.inl ⟨_, rfl⟩ | exact Or.inr ⟨_, rfl⟩) dX17_read_34
def f_X17_read_L4 (k30 : Nat → mH → Option ((Nat ⊕ Nat) × mH)) : Nat → Nat → mH → Option ((Nat ⊕ Nat) × mH)
  | 0, _, _ => none
  | n + 1, r0, h => (gFi [6] 4 h r0).bind fun v3 => if v3 = 0 then k30 r0 h else (gFr [6] 10 h r0).bind fun v5 => if gC h r0 = 6 then bT (f_X17_act r0  h) fun v6 h6 => if gC h6 v5 = 21 then bR (f_J2_add v5 v6 h6) fun a7 g7 => if gC g7 r0 ∈ [6] then bT (f_X6_end r0  g7) fun v8 h8 => (f_X17_read_L4 k30 n) r0 h8 else none else none else none
theorem t_X17_read_L4 {G : xG} {C : xC} {o : (Nat ⊕ Nat) × mH} (hE : xEndT G C [] (xoA "StrangerMarket$Fault" o.1) o.2) {k30 : Nat → mH → Option ((Nat ⊕ Nat) × mH)} (hk30 : ∀ (r0 : Nat) (h : mH), k30 r0 h = some o → X G C mi_X17_read 30 [(0, .ref r0)] [] h) : ∀ (n : Nat) (r0 : Nat) (h : mH), f_X17_read_L4 k30 n r0 h = some o → X G C mi_X17_read 4 [(0, .ref r0)] [] h := by
  intro n
  induction n with
  | zero => intro r0 h H; exact nomatch (show (none : Option ((Nat ⊕ Nat) × mH)) = some o from H)
  | succ n ih =>
    intro r0 h H
    rw [f_X17_read_L4] at H
    refine x_aload_n 0 rfl dX17_read_4 ?_
    obtain ⟨v3, e3, H⟩ := ob H
    refine x_getf fg_X17_27 (gFi_spec e3) dX17_read_5 ?_
    refine x_if_eq 30 dX17_read_8 (by decide) (fun c4 => ?_) (fun c4 => ?_)
    · rw [if_pos c4] at H
      exact hk30 _ _ H
    · rw [if_neg c4] at H
      refine x_aload_n 0 rfl dX17_read_11 ?_
      obtain ⟨v5, e5, H⟩ := ob H
      refine x_getf fg_X17_14 (gFr_spec e5) dX17_read_12 ?_
      refine x_aload_n 0 rfl dX17_read_15 ?_
      obtain ⟨c6, H⟩ := oit H
      rcases obT H with ⟨a6, h6, e6, rfl⟩ | ⟨v6, h6, e6, H⟩
      · exact x_goX (t_X17_act C _ e6) (x_rV (M' := mi_X17_act) (n := 0) (As := []) (t_X17_act C _ e6) c6 rfl rfl md_X17_act ⟨Nat.le_of_ble_eq_true rfl, Nat.le_of_ble_eq_true rfl⟩ q1573 q1575 qs38 q155 q1576 rfl (Nat.le_of_ble_eq_true rfl) dX17_read_16) hE
      refine x_goR (r := (some (.ref v6))) (t_X17_act C _ e6) (x_rV (M' := mi_X17_act) (n := 0) (As := []) (t_X17_act C _ e6) c6 rfl rfl md_X17_act ⟨Nat.le_of_ble_eq_true rfl, Nat.le_of_ble_eq_true rfl⟩ q1573 q1575 qs38 q155 q1576 rfl (Nat.le_of_ble_eq_true rfl) dX17_read_16) ?_
      obtain ⟨c7, H⟩ := oit H
      obtain ⟨a7, g7, e7, H⟩ := obR H
      refine x_callV (M' := mi_J2_add) (n := 1) (As := [.ref v6]) (t_J2_add C _ e7) c7 rfl rfl md_J2_add ⟨Nat.le_of_ble_eq_true rfl, Nat.le_of_ble_eq_true rfl⟩ q1625 q970 q971 q124 q972 rfl (Nat.le_of_ble_eq_true rfl) dX17_read_19 ?_
      refine x_pop dX17_read_22 rfl ?_
      refine x_aload_n 0 rfl dX17_read_23 ?_
      obtain ⟨c8, H⟩ := oit H
      rcases obT H with ⟨a8, h8, e8, rfl⟩ | ⟨v8, h8, e8, H⟩
      · exact x_goX (t_X6_end C _ e8) (x_rU (M' := mi_X6_end) (n := 0) (As := []) (t_X6_end C _ e8) c8 up_X17_39_6 (by decide +kernel) ⟨Nat.le_of_ble_eq_true rfl, Nat.le_of_ble_eq_true rfl⟩ q1099 rfl (Nat.le_of_ble_eq_true rfl) dX17_read_24) hE
      refine x_goR (r := none) (t_X6_end C _ e8) (x_rU (M' := mi_X6_end) (n := 0) (As := []) (t_X6_end C _ e8) c8 up_X17_39_6 (by decide +kernel) ⟨Nat.le_of_ble_eq_true rfl, Nat.le_of_ble_eq_true rfl⟩ q1099 rfl (Nat.le_of_ble_eq_true rfl) dX17_read_24) ?_
      refine x_goto (tgt := 4) dX17_read_27 (by decide) ?_
      exact ih _ _ H
def f_X17_read (r0 : Nat) (h : mH) : Option ((Nat ⊕ Nat) × mH) := if gC h r0 ∈ [6] then bR (f_X6_go r0  h) fun a1 g1 => f_X17_read_L4 (f_X17_read_b30) xFu r0 g1 else none
theorem t_X17_read {G : xG} (C0 : xC) {l : Launch} {r0 : Nat} (h : mH) {o : (Nat ⊕ Nat) × mH} (H : f_X17_read r0 h = some o) : XT G l mi_X17_read [.ref r0] h (xoA "StrangerMarket$Fault" o.1) o.2 := by
  refine XT.of C0 (by decide) (Nat.le_of_ble_eq_true rfl) (fun C _ _ _ hE => ?_)
  show X G C mi_X17_read 0 [(0, .ref r0)] [] h
  unfold f_X17_read at H
  refine x_aload_n 0 rfl dX17_read_0 ?_
  obtain ⟨c1, H⟩ := oit H
  obtain ⟨a1, g1, e1, H⟩ := obR H
  refine x_callU (M' := mi_X6_go) (n := 0) (As := []) (t_X6_go C _ e1) c1 up_X17_24_6 (by decide +kernel) ⟨Nat.le_of_ble_eq_true rfl, Nat.le_of_ble_eq_true rfl⟩ q522 rfl (Nat.le_of_ble_eq_true rfl) dX17_read_1 ?_
  exact t_X17_read_L4 hE (t_X17_read_b30 hE) xFu _ _ H
abbrev mi_X3_isOver : xM := (cX3_isOver, yX3_isOver, 1, some .boolean, 1)
theorem md_X3_isOver : xMD mi_X3_isOver 0 := ⟨by decide, by decide, by decide +kernel⟩
def f_X3_isOver (r0 : Nat) (h : mH) : Option (Int32 × mH) := (gFi [2] 1 h r0).bind fun v1 => if v1 = (400 : Int32) then some ((1 : Int32), h) else some ((0 : Int32), h)
theorem t_X3_isOver {G : xG} (C0 : xC) {l : Launch} {r0 : Nat} (h : mH) {o : Int32 × mH} (H : f_X3_isOver r0 h = some o) : XR G l mi_X3_isOver [.ref r0] h (some (.int o.1)) o.2 := by
  refine XR.of C0 (by decide) (Nat.le_of_ble_eq_true rfl) (fun C _ _ _ hE => ?_)
  show X G C mi_X3_isOver 0 [(0, .ref r0)] [] h
  unfold f_X3_isOver at H
  refine x_aload_n 0 rfl dX3_isOver_0 ?_
  obtain ⟨v1, e1, H⟩ := ob H
  refine x_getf fg_X3_34 (gFi_spec e1) dX3_isOver_1 ?_
  refine x_sipush (400 : Int32) dX3_isOver_4 si_400 ?_
  refine x_icmp_ne 14 dX3_isOver_7 (by decide) (fun c2 => ?_) (fun c2 => ?_)
  · rw [if_neg c2] at H
    refine x_iconst (0 : Int32) dX3_isOver_14 ic_0 ?_
    obtain rfl := Option.some.inj H
    exact x_iret hE rfl rfl dX3_isOver_15
  · rw [if_pos c2] at H
    refine x_iconst (1 : Int32) dX3_isOver_10 ic_1 ?_
    refine x_goto (tgt := 15) dX3_isOver_11 (by decide) ?_
    obtain rfl := Option.some.inj H
    exact x_iret hE rfl rfl dX3_isOver_15
abbrev mi_X3_forget : xM := (cX3_forget, yX3_forget, 1, none, 2)
theorem md_X3_forget : xMD mi_X3_forget 0 := ⟨by decide, by decide, by decide +kernel⟩
def f_X3_forget (r0 : Nat) (h : mH) : Option (Unit × mH) := (gFr [2] 8 h r0).bind fun v1 => bR (f_J3_fill v1 (0 : Int32) h) fun a2 g2 => (gFr [2] 9 g2 r0).bind fun v3 => bR (f_J3_fill v3 (0 : Int32) g2) fun a4 g4 => some ((), g4)
theorem t_X3_forget {G : xG} (C0 : xC) {l : Launch} {r0 : Nat} (h : mH) {o : Unit × mH} (H : f_X3_forget r0 h = some o) : XR G l mi_X3_forget [.ref r0] h none o.2 := by
  refine XR.of C0 (by decide) (Nat.le_of_ble_eq_true rfl) (fun C _ _ _ hE => ?_)
  show X G C mi_X3_forget 0 [(0, .ref r0)] [] h
  unfold f_X3_forget at H
  refine x_aload_n 0 rfl dX3_forget_0 ?_
  obtain ⟨v1, e1, H⟩ := ob H
  refine x_getf fg_X3_18 (gFr_spec e1) dX3_forget_1 ?_
  refine x_iconst (0 : Int32) dX3_forget_4 ic_0 ?_
  obtain ⟨a2, g2, e2, H⟩ := obR H
  refine x_callS (M' := mi_J3_fill) (n := 2) (As := [.ref v1, .int (0 : Int32)]) (t_J3_fill C _ e2) md_J3_fill ⟨Nat.le_of_ble_eq_true rfl, Nat.le_of_ble_eq_true rfl⟩ q309 q310 q126 q311 rfl (Nat.le_of_ble_eq_true rfl) dX3_forget_5 ?_
  refine x_aload_n 0 rfl dX3_forget_8 ?_
  obtain ⟨v3, e3, H⟩ := ob H
  refine x_getf fg_X3_21 (gFr_spec e3) dX3_forget_9 ?_
  refine x_iconst (0 : Int32) dX3_forget_12 ic_0 ?_
  obtain ⟨a4, g4, e4, H⟩ := obR H
  refine x_callS (M' := mi_J3_fill) (n := 2) (As := [.ref v3, .int (0 : Int32)]) (t_J3_fill C _ e4) md_J3_fill ⟨Nat.le_of_ble_eq_true rfl, Nat.le_of_ble_eq_true rfl⟩ q309 q310 q126 q311 rfl (Nat.le_of_ble_eq_true rfl) dX3_forget_13 ?_
  obtain rfl := Option.some.inj H
  exact x_vret hE rfl dX3_forget_16
abbrev mi_X3_open : xM := (cX3_open, yX3_open, 2, none, 5)
theorem md_X3_open : xMD mi_X3_open 0 := ⟨by decide, by decide, by decide +kernel⟩
def f_X3_open_L23 : Nat → Nat → Int32 → mH → Option (Unit × mH)
  | 0, _, _, _ => none
  | n + 1, r0, x1, h => if gC h r0 = 2 then bR (f_X3_persons r0  h) fun a6 g6 => if a6 ≤ x1 then some ((), g6) else if gC g6 r0 = 2 then bR (f_X3_person r0 x1 g6) fun a8 g8 => (gFr [10] 4 g8 a8).bind fun v9 => (gFr [2] 10 g8 r0).bind fun v10 => (cpA g8 v9 (0 : Int32) v10 ((5 : Int32) * x1) (5 : Int32)).bind fun h11 => if gC h11 r0 = 2 then bR (f_X3_person r0 x1 h11) fun a12 g12 => (gFr [10] 6 g12 a12).bind fun v13 => (gFr [2] 11 g12 r0).bind fun v14 => (cpA g12 v13 (0 : Int32) v14 ((5 : Int32) * x1) (5 : Int32)).bind fun h15 => (f_X3_open_L23 n) r0 (x1 + (1 : Int32)) h15 else none else none else none
theorem t_X3_open_L23 {G : xG} {C : xC} {o : Unit × mH} (hE : xEnd G C none o.2) : ∀ (n : Nat) (r0 : Nat) (x1 : Int32) (h : mH), f_X3_open_L23 n r0 x1 h = some o → X G C mi_X3_open 23 [(0, .ref r0), (1, .int x1)] [] h := by
  intro n
  induction n with
  | zero => intro r0 x1 h H; exact nomatch (show (none : Option (Unit × mH)) = some o from H)
  | succ n ih =>
    intro r0 x1 h H
    rw [f_X3_open_L23] at H
    refine x_iload_n 1 rfl dX3_open_23 ?_
    refine x_aload_n 0 rfl dX3_open_24 ?_
    obtain ⟨c6, H⟩ := oit H
    obtain ⟨a6, g6, e6, H⟩ := obR H
    refine x_callV (M' := mi_X3_persons) (n := 0) (As := []) (t_X3_persons C _ e6) c6 rfl rfl md_X3_persons ⟨Nat.le_of_ble_eq_true rfl, Nat.le_of_ble_eq_true rfl⟩ q312 q313 q314 q125 q315 rfl (Nat.le_of_ble_eq_true rfl) dX3_open_25 ?_
    refine x_icmp_ge 77 dX3_open_28 (by decide) (fun c7 => ?_) (fun c7 => ?_)
    · rw [if_pos c7] at H
      obtain rfl := Option.some.inj H
      exact x_vret hE rfl dX3_open_77
    · rw [if_neg c7] at H
      refine x_aload_n 0 rfl dX3_open_31 ?_
      refine x_iload_n 1 rfl dX3_open_32 ?_
      obtain ⟨c8, H⟩ := oit H
      obtain ⟨a8, g8, e8, H⟩ := obR H
      refine x_callV (M' := mi_X3_person) (n := 1) (As := [.int x1]) (t_X3_person C _ e8) c8 rfl rfl md_X3_person ⟨Nat.le_of_ble_eq_true rfl, Nat.le_of_ble_eq_true rfl⟩ q320 q321 q322 q125 q323 rfl (Nat.le_of_ble_eq_true rfl) dX3_open_33 ?_
      obtain ⟨v9, e9, H⟩ := ob H
      refine x_getf fg_X3_102 (gFr_spec e9) dX3_open_36 ?_
      refine x_iconst (0 : Int32) dX3_open_39 ic_0 ?_
      refine x_aload_n 0 rfl dX3_open_40 ?_
      obtain ⟨v10, e10, H⟩ := ob H
      refine x_getf fg_X3_24 (gFr_spec e10) dX3_open_41 ?_
      refine x_iconst (5 : Int32) dX3_open_44 ic_5 ?_
      refine x_iload_n 1 rfl dX3_open_45 ?_
      refine x_imul dX3_open_46 ?_
      refine x_iconst (5 : Int32) dX3_open_47 ic_5 ?_
      obtain ⟨h11, e11, H⟩ := ob H
      refine x_copy q347 q349 q348 q129 e11 (by decide) (Nat.le_of_ble_eq_true rfl) dX3_open_48 ?_
      refine x_aload_n 0 rfl dX3_open_51 ?_
      refine x_iload_n 1 rfl dX3_open_52 ?_
      obtain ⟨c12, H⟩ := oit H
      obtain ⟨a12, g12, e12, H⟩ := obR H
      refine x_callV (M' := mi_X3_person) (n := 1) (As := [.int x1]) (t_X3_person C _ e12) c12 rfl rfl md_X3_person ⟨Nat.le_of_ble_eq_true rfl, Nat.le_of_ble_eq_true rfl⟩ q320 q321 q322 q125 q323 rfl (Nat.le_of_ble_eq_true rfl) dX3_open_53 ?_
      obtain ⟨v13, e13, H⟩ := ob H
      refine x_getf fg_X3_103 (gFr_spec e13) dX3_open_56 ?_
      refine x_iconst (0 : Int32) dX3_open_59 ic_0 ?_
      refine x_aload_n 0 rfl dX3_open_60 ?_
      obtain ⟨v14, e14, H⟩ := ob H
      refine x_getf fg_X3_27 (gFr_spec e14) dX3_open_61 ?_
      refine x_iconst (5 : Int32) dX3_open_64 ic_5 ?_
      refine x_iload_n 1 rfl dX3_open_65 ?_
      refine x_imul dX3_open_66 ?_
      refine x_iconst (5 : Int32) dX3_open_67 ic_5 ?_
      obtain ⟨h15, e15, H⟩ := ob H
      refine x_copy q347 q349 q348 q129 e15 (by decide) (Nat.le_of_ble_eq_true rfl) dX3_open_68 ?_
      refine x_iinc 1 (x1 + (1 : Int32)) [1, 0] dX3_open_71 rfl (ii_1 _) (by decide) rfl ?_
      refine x_goto (tgt := 23) dX3_open_74 (by decide) ?_
      exact ih _ _ _ H
def f_X3_open (r0 : Nat) (h : mH) : Option (Unit × mH) := (pF [2] 4 (.int (0 : Int32)) h r0).bind fun h1 => (pF [2] 5 (.int (0 : Int32)) h1 r0).bind fun h2 => (gFr [2] 0 h2 r0).bind fun v3 => (gFi [1] 2 h2 v3).bind fun v4 => (pF [2] 3 (.int v4) h2 r0).bind fun h5 => f_X3_open_L23  xFu r0 (0 : Int32) h5
theorem t_X3_open {G : xG} (C0 : xC) {l : Launch} {r0 : Nat} (h : mH) {o : Unit × mH} (H : f_X3_open r0 h = some o) : XR G l mi_X3_open [.ref r0] h none o.2 := by
  refine XR.of C0 (by decide) (Nat.le_of_ble_eq_true rfl) (fun C _ _ _ hE => ?_)
  show X G C mi_X3_open 0 [(0, .ref r0)] [] h
  unfold f_X3_open at H
  refine x_aload_n 0 rfl dX3_open_0 ?_
  refine x_iconst (0 : Int32) dX3_open_1 ic_0 ?_
  obtain ⟨h1, e1, H⟩ := ob H
  refine x_putf (fp_X3_68 _) rfl rfl e1 dX3_open_2 ?_
  refine x_aload_n 0 rfl dX3_open_5 ?_
  refine x_iconst (0 : Int32) dX3_open_6 ic_0 ?_
  obtain ⟨h2, e2, H⟩ := ob H
  refine x_putf (fp_X3_71 _) rfl rfl e2 dX3_open_7 ?_
  refine x_aload_n 0 rfl dX3_open_10 ?_
  refine x_aload_n 0 rfl dX3_open_11 ?_
  obtain ⟨v3, e3, H⟩ := ob H
  refine x_getf fg_X3_30 (gFr_spec e3) dX3_open_12 ?_
  obtain ⟨v4, e4, H⟩ := ob H
  refine x_getf fg_X3_101 (gFi_spec e4) dX3_open_15 ?_
  obtain ⟨h5, e5, H⟩ := ob H
  refine x_putf (fp_X3_65 _) rfl rfl e5 dX3_open_18 ?_
  refine x_iconst (0 : Int32) dX3_open_21 ic_0 ?_
  refine x_istore_n [1, 0] dX3_open_22 (by decide) rfl ?_
  exact t_X3_open_L23 hE  xFu _ _ _ H
abbrev mi_X3_pass : xM := (cX3_pass, yX3_pass, 2, none, 6)
theorem md_X3_pass : xMD mi_X3_pass 0 := ⟨by decide, by decide, by decide +kernel⟩
def f_X3_pass_b40 (r0 : Nat) (h : mH) : Option (Unit × mH) := if gC h r0 = 2 then bR (f_X3_open r0  h) fun a1 g1 => (gFi [2] 1 g1 r0).bind fun v2 => (pF [2] 1 (.int (v2 + (1 : Int32))) g1 r0).bind fun h3 => (gFr [2] 0 h3 r0).bind fun v4 => (gFi [1] 3 h3 v4).bind fun v5 => if v5 ≤ 0 then some ((), h3) else (gFi [2] 1 h3 r0).bind fun v7 => (gFr [2] 0 h3 r0).bind fun v8 => (gFi [1] 3 h3 v8).bind fun v9 => if v9 = 0 then none else if (v7 - v7 / v9 * v9) = 0 then if gC h3 r0 = 2 then bR (f_X3_forget r0  h3) fun a12 g12 => some ((), g12) else none else some ((), h3) else none
theorem t_X3_pass_b40 {G : xG} {C : xC} {o : Unit × mH} (hE : xEnd G C none o.2) (r0 : Nat) (h : mH) (H : f_X3_pass_b40 r0 h = some o) : X G C mi_X3_pass 40 [(0, .ref r0)] [] h := by
  unfold f_X3_pass_b40 at H
  refine x_aload_n 0 rfl dX3_pass_40 ?_
  obtain ⟨c1, H⟩ := oit H
  obtain ⟨a1, g1, e1, H⟩ := obR H
  refine x_callV (M' := mi_X3_open) (n := 0) (As := []) (t_X3_open C _ e1) c1 rfl rfl md_X3_open ⟨Nat.le_of_ble_eq_true rfl, Nat.le_of_ble_eq_true rfl⟩ q343 q345 qs1 q125 q346 rfl (Nat.le_of_ble_eq_true rfl) dX3_pass_41 ?_
  refine x_aload_n 0 rfl dX3_pass_44 ?_
  refine x_dup dX3_pass_45 rfl ?_
  obtain ⟨v2, e2, H⟩ := ob H
  refine x_getf fg_X3_34 (gFi_spec e2) dX3_pass_46 ?_
  refine x_iconst (1 : Int32) dX3_pass_49 ic_1 ?_
  refine x_iadd dX3_pass_50 ?_
  obtain ⟨h3, e3, H⟩ := ob H
  refine x_putf (fp_X3_34 _) rfl rfl e3 dX3_pass_51 ?_
  refine x_aload_n 0 rfl dX3_pass_54 ?_
  obtain ⟨v4, e4, H⟩ := ob H
  refine x_getf fg_X3_30 (gFr_spec e4) dX3_pass_55 ?_
  obtain ⟨v5, e5, H⟩ := ob H
  refine x_getf fg_X3_156 (gFi_spec e5) dX3_pass_58 ?_
  refine x_if_le 83 dX3_pass_61 (by decide) (fun c6 => ?_) (fun c6 => ?_)
  · rw [if_pos c6] at H
    obtain rfl := Option.some.inj H
    exact x_vret hE rfl dX3_pass_83
  · rw [if_neg c6] at H
    refine x_aload_n 0 rfl dX3_pass_64 ?_
    obtain ⟨v7, e7, H⟩ := ob H
    refine x_getf fg_X3_34 (gFi_spec e7) dX3_pass_65 ?_
    refine x_aload_n 0 rfl dX3_pass_68 ?_
    obtain ⟨v8, e8, H⟩ := ob H
    refine x_getf fg_X3_30 (gFr_spec e8) dX3_pass_69 ?_
    obtain ⟨v9, e9, H⟩ := ob H
    refine x_getf fg_X3_156 (gFi_spec e9) dX3_pass_72 ?_
    obtain ⟨c10, H⟩ := oif H
    refine x_irem dX3_pass_75 c10 ?_
    refine x_if_ne 83 dX3_pass_76 (by decide) (fun c11 => ?_) (fun c11 => ?_)
    · rw [if_neg c11] at H
      obtain rfl := Option.some.inj H
      exact x_vret hE rfl dX3_pass_83
    · rw [if_pos c11] at H
      refine x_aload_n 0 rfl dX3_pass_79 ?_
      obtain ⟨c12, H⟩ := oit H
      obtain ⟨a12, g12, e12, H⟩ := obR H
      refine x_callV (M' := mi_X3_forget) (n := 0) (As := []) (t_X3_forget C _ e12) c12 rfl rfl md_X3_forget ⟨Nat.le_of_ble_eq_true rfl, Nat.le_of_ble_eq_true rfl⟩ q339 q341 qs0 q125 q342 rfl (Nat.le_of_ble_eq_true rfl) dX3_pass_80 ?_
      obtain rfl := Option.some.inj H
      exact x_vret hE rfl dX3_pass_83
def f_X3_pass_L2 (k40 : Nat → mH → Option (Unit × mH)) : Nat → Nat → Int32 → mH → Option (Unit × mH)
  | 0, _, _, _ => none
  | n + 1, r0, x1, h => if gC h r0 = 2 then bR (f_X3_persons r0  h) fun a13 g13 => if a13 ≤ x1 then k40 r0 g13 else (gFr [2] 7 g13 r0).bind fun v15 => (gFr [2] 7 g13 r0).bind fun v16 => (aI .int g13 v16 x1).bind fun v17 => if gC g13 r0 = 2 then bR (f_X3_wanted r0 x1 g13) fun a18 g18 => (sI .int g18 v15 x1 (if (v17 + a18) < (9999 : Int32) then (v17 + a18) else (9999 : Int32))).bind fun h20 => (f_X3_pass_L2 k40 n) r0 (x1 + (1 : Int32)) h20 else none else none
theorem t_X3_pass_L2 {G : xG} {C : xC} {o : Unit × mH} (hE : xEnd G C none o.2) {k40 : Nat → mH → Option (Unit × mH)} (hk40 : ∀ (r0 : Nat) (h : mH), k40 r0 h = some o → X G C mi_X3_pass 40 [(0, .ref r0)] [] h) : ∀ (n : Nat) (r0 : Nat) (x1 : Int32) (h : mH), f_X3_pass_L2 k40 n r0 x1 h = some o → X G C mi_X3_pass 2 [(0, .ref r0), (1, .int x1)] [] h := by
  intro n
  induction n with
  | zero => intro r0 x1 h H; exact nomatch (show (none : Option (Unit × mH)) = some o from H)
  | succ n ih =>
    intro r0 x1 h H
    rw [f_X3_pass_L2] at H
    refine x_iload_n 1 rfl dX3_pass_2 ?_
    refine x_aload_n 0 rfl dX3_pass_3 ?_
    obtain ⟨c13, H⟩ := oit H
    obtain ⟨a13, g13, e13, H⟩ := obR H
    refine x_callV (M' := mi_X3_persons) (n := 0) (As := []) (t_X3_persons C _ e13) c13 rfl rfl md_X3_persons ⟨Nat.le_of_ble_eq_true rfl, Nat.le_of_ble_eq_true rfl⟩ q312 q313 q314 q125 q315 rfl (Nat.le_of_ble_eq_true rfl) dX3_pass_4 ?_
    refine x_icmp_ge 40 dX3_pass_7 (by decide) (fun c14 => ?_) (fun c14 => ?_)
    · rw [if_pos c14] at H
      refine X.sub [0] rfl ?_
      exact hk40 _ _ H
    · rw [if_neg c14] at H
      refine x_aload_n 0 rfl dX3_pass_10 ?_
      obtain ⟨v15, e15, H⟩ := ob H
      refine x_getf fg_X3_15 (gFr_spec e15) dX3_pass_11 ?_
      refine x_iload_n 1 rfl dX3_pass_14 ?_
      refine x_sipush (9999 : Int32) dX3_pass_15 si_9999 ?_
      refine x_aload_n 0 rfl dX3_pass_18 ?_
      obtain ⟨v16, e16, H⟩ := ob H
      refine x_getf fg_X3_15 (gFr_spec e16) dX3_pass_19 ?_
      refine x_iload_n 1 rfl dX3_pass_22 ?_
      obtain ⟨v17, e17, H⟩ := ob H
      refine x_iald e17 dX3_pass_23 ?_
      refine x_aload_n 0 rfl dX3_pass_24 ?_
      refine x_iload_n 1 rfl dX3_pass_25 ?_
      obtain ⟨c18, H⟩ := oit H
      obtain ⟨a18, g18, e18, H⟩ := obR H
      refine x_callV (M' := mi_X3_wanted) (n := 1) (As := [.int x1]) (t_X3_wanted C _ e18) c18 rfl rfl md_X3_wanted ⟨Nat.le_of_ble_eq_true rfl, Nat.le_of_ble_eq_true rfl⟩ q1289 q1146 q1147 q125 q1148 rfl (Nat.le_of_ble_eq_true rfl) dX3_pass_26 ?_
      refine x_iadd dX3_pass_29 ?_
      refine x_mmin (by decide) q1290 q601 q139 q602 (Nat.le_of_ble_eq_true rfl) dX3_pass_30 ?_
      obtain ⟨h20, e20, H⟩ := ob H
      refine x_iast e20 dX3_pass_33 ?_
      refine x_iinc 1 (x1 + (1 : Int32)) [1, 0] dX3_pass_34 rfl (ii_1 _) (by decide) rfl ?_
      refine x_goto (tgt := 2) dX3_pass_37 (by decide) ?_
      exact ih _ _ _ H
def f_X3_pass (r0 : Nat) (h : mH) : Option (Unit × mH) := f_X3_pass_L2 (f_X3_pass_b40) xFu r0 (0 : Int32) h
theorem t_X3_pass {G : xG} (C0 : xC) {l : Launch} {r0 : Nat} (h : mH) {o : Unit × mH} (H : f_X3_pass r0 h = some o) : XR G l mi_X3_pass [.ref r0] h none o.2 := by
  refine XR.of C0 (by decide) (Nat.le_of_ble_eq_true rfl) (fun C _ _ _ hE => ?_)
  show X G C mi_X3_pass 0 [(0, .ref r0)] [] h
  unfold f_X3_pass at H
  refine x_iconst (0 : Int32) dX3_pass_0 ic_0 ?_
  refine x_istore_n [1, 0] dX3_pass_1 (by decide) rfl ?_
  exact t_X3_pass_L2 hE (t_X3_pass_b40 hE) xFu _ _ _ H
abbrev mi_X3_passAll : xM := (cX3_passAll, yX3_passAll, 3, some .int, 7)
theorem md_X3_passAll : xMD mi_X3_passAll 1 := ⟨by decide, by decide, by decide +kernel⟩
def f_X3_passAll_L2 : Nat → Nat → Int32 → Int32 → mH → Option (Int32 × mH)
  | 0, _, _, _, _ => none
  | n + 1, r0, x1, x2, h => if x1 ≤ x2 then some (x2, h) else if gC h r0 = 2 then bR (f_X3_isOver r0  h) fun a2 g2 => if a2 = 0 then if gC g2 r0 = 2 then bR (f_X3_pass r0  g2) fun a4 g4 => (f_X3_passAll_L2 n) r0 x1 (x2 + (1 : Int32)) g4 else none else some (x2, g2) else none
theorem t_X3_passAll_L2 {G : xG} {C : xC} {o : Int32 × mH} (hE : xEnd G C (some (.int o.1)) o.2) : ∀ (n : Nat) (r0 : Nat) (x1 : Int32) (x2 : Int32) (h : mH), f_X3_passAll_L2 n r0 x1 x2 h = some o → X G C mi_X3_passAll 2 [(0, .ref r0), (1, .int x1), (2, .int x2)] [] h := by
  intro n
  induction n with
  | zero => intro r0 x1 x2 h H; exact nomatch (show (none : Option (Int32 × mH)) = some o from H)
  | succ n ih =>
    intro r0 x1 x2 h H
    rw [f_X3_passAll_L2] at H
    refine x_iload_n 2 rfl dX3_passAll_2 ?_
    refine x_iload_n 1 rfl dX3_passAll_3 ?_
    refine x_icmp_ge 24 dX3_passAll_4 (by decide) (fun c1 => ?_) (fun c1 => ?_)
    · rw [if_pos c1] at H
      refine x_iload_n 2 rfl dX3_passAll_24 ?_
      obtain rfl := Option.some.inj H
      exact x_iret hE rfl rfl dX3_passAll_25
    · rw [if_neg c1] at H
      refine x_aload_n 0 rfl dX3_passAll_7 ?_
      obtain ⟨c2, H⟩ := oit H
      obtain ⟨a2, g2, e2, H⟩ := obR H
      refine x_callV (M' := mi_X3_isOver) (n := 0) (As := []) (t_X3_isOver C _ e2) c2 rfl rfl md_X3_isOver ⟨Nat.le_of_ble_eq_true rfl, Nat.le_of_ble_eq_true rfl⟩ q1281 q1282 q1283 q125 q1284 rfl (Nat.le_of_ble_eq_true rfl) dX3_passAll_8 ?_
      refine x_if_ne 24 dX3_passAll_11 (by decide) (fun c3 => ?_) (fun c3 => ?_)
      · rw [if_neg c3] at H
        refine x_iload_n 2 rfl dX3_passAll_24 ?_
        obtain rfl := Option.some.inj H
        exact x_iret hE rfl rfl dX3_passAll_25
      · rw [if_pos c3] at H
        refine x_aload_n 0 rfl dX3_passAll_14 ?_
        obtain ⟨c4, H⟩ := oit H
        obtain ⟨a4, g4, e4, H⟩ := obR H
        refine x_callV (M' := mi_X3_pass) (n := 0) (As := []) (t_X3_pass C _ e4) c4 rfl rfl md_X3_pass ⟨Nat.le_of_ble_eq_true rfl, Nat.le_of_ble_eq_true rfl⟩ q1285 q1286 q1287 q125 q1288 rfl (Nat.le_of_ble_eq_true rfl) dX3_passAll_15 ?_
        refine x_iinc 2 (x2 + (1 : Int32)) [1, 2, 0] dX3_passAll_18 rfl (ii_1 _) (by decide) rfl ?_
        refine x_goto (tgt := 2) dX3_passAll_21 (by decide) ?_
        exact ih _ _ _ _ H
def f_X3_passAll (r0 : Nat) (x1 : Int32) (h : mH) : Option (Int32 × mH) := f_X3_passAll_L2  xFu r0 x1 (0 : Int32) h
theorem t_X3_passAll {G : xG} (C0 : xC) {l : Launch} {r0 : Nat} {x1 : Int32} (h : mH) {o : Int32 × mH} (H : f_X3_passAll r0 x1 h = some o) : XR G l mi_X3_passAll [.ref r0, .int x1] h (some (.int o.1)) o.2 := by
  refine XR.of C0 (by decide) (Nat.le_of_ble_eq_true rfl) (fun C _ _ _ hE => ?_)
  show X G C mi_X3_passAll 0 [(0, .ref r0), (1, .int x1)] [] h
  unfold f_X3_passAll at H
  refine x_iconst (0 : Int32) dX3_passAll_0 ic_0 ?_
  refine x_istore_n [1, 2, 0] dX3_passAll_1 (by decide) rfl ?_
  exact t_X3_passAll_L2 hE  xFu _ _ _ _ H
abbrev mi_X18_does : xM := (cX18_does, yX18_does, 2, some .int, 8)
theorem md_X18_does : xMD mi_X18_does 1 := ⟨by decide, by decide, by decide +kernel⟩
def f_X18_does (r0 : Nat) (r1 : Nat) (h : mH) : Option (Int32 × mH) := (gFi [2] 1 h r1).bind fun v1 => (gFi [15] 1 h r0).bind fun v2 => if (v1 + v2) ≤ (400 : Int32) then (gFi [15] 1 h r0).bind fun v4 => if gC h r1 = 2 then bR (f_X3_passAll r1 v4 h) fun a5 g5 => some ((0 : Int32), g5) else none else some ((41 : Int32), h)
theorem t_X18_does {G : xG} (C0 : xC) {l : Launch} {r0 : Nat} {r1 : Nat} (h : mH) {o : Int32 × mH} (H : f_X18_does r0 r1 h = some o) : XR G l mi_X18_does [.ref r0, .ref r1] h (some (.int o.1)) o.2 := by
  refine XR.of C0 (by decide) (Nat.le_of_ble_eq_true rfl) (fun C _ _ _ hE => ?_)
  show X G C mi_X18_does 0 [(0, .ref r0), (1, .ref r1)] [] h
  unfold f_X18_does at H
  refine x_aload_n 1 rfl dX18_does_0 ?_
  obtain ⟨v1, e1, H⟩ := ob H
  refine x_getf fg_X18_15 (gFi_spec e1) dX18_does_1 ?_
  refine x_aload_n 0 rfl dX18_does_4 ?_
  obtain ⟨v2, e2, H⟩ := ob H
  refine x_getf fg_X18_9 (gFi_spec e2) dX18_does_5 ?_
  refine x_iadd dX18_does_8 ?_
  refine x_sipush (400 : Int32) dX18_does_9 si_400 ?_
  refine x_icmp_le 18 dX18_does_12 (by decide) (fun c3 => ?_) (fun c3 => ?_)
  · rw [if_pos c3] at H
    refine x_aload_n 1 rfl dX18_does_18 ?_
    refine x_aload_n 0 rfl dX18_does_19 ?_
    obtain ⟨v4, e4, H⟩ := ob H
    refine x_getf fg_X18_9 (gFi_spec e4) dX18_does_20 ?_
    obtain ⟨c5, H⟩ := oit H
    obtain ⟨a5, g5, e5, H⟩ := obR H
    refine x_callV (M' := mi_X3_passAll) (n := 1) (As := [.int v4]) (t_X3_passAll C _ e5) c5 rfl rfl md_X3_passAll ⟨Nat.le_of_ble_eq_true rfl, Nat.le_of_ble_eq_true rfl⟩ q1277 q1278 q1279 q125 q1280 rfl (Nat.le_of_ble_eq_true rfl) dX18_does_23 ?_
    refine x_pop dX18_does_26 rfl ?_
    refine x_iconst (0 : Int32) dX18_does_27 ic_0 ?_
    obtain rfl := Option.some.inj H
    exact x_iret hE rfl rfl dX18_does_28
  · rw [if_neg c3] at H
    refine x_bipush (41 : Int32) dX18_does_15 bi_41 ?_
    obtain rfl := Option.some.inj H
    exact x_iret hE rfl rfl dX18_does_17
abbrev mi_X19_numbered : xM := (cX19_numbered, yX19_numbered, 1, some .int, 4)
theorem md_X19_numbered : xMD mi_X19_numbered 0 := ⟨by decide, by decide, by decide +kernel⟩
def f_X19_numbered (r0 : Nat) (h : mH) : Option (Int32 × mH) := if gC h r0 ∈ [7] then bR (f_X6_is r0 37 h) fun a1 g1 => if a1 = 0 then if gC g1 r0 ∈ [7] then bR (f_X6_is r0 38 g1) fun a3 g3 => if a3 = 0 then if gC g3 r0 ∈ [7] then bR (f_X6_is r0 39 g3) fun a5 g5 => if a5 = 0 then if gC g5 r0 ∈ [7] then bR (f_X6_is r0 40 g5) fun a7 g7 => if a7 = 0 then some ((-1 : Int32), g7) else some ((3 : Int32), g7) else none else some ((2 : Int32), g5) else none else some ((1 : Int32), g3) else none else some ((0 : Int32), g1) else none
theorem t_X19_numbered {G : xG} (C0 : xC) {l : Launch} {r0 : Nat} (h : mH) {o : Int32 × mH} (H : f_X19_numbered r0 h = some o) : XR G l mi_X19_numbered [.ref r0] h (some (.int o.1)) o.2 := by
  refine XR.of C0 (by decide) (Nat.le_of_ble_eq_true rfl) (fun C _ _ _ hE => ?_)
  show X G C mi_X19_numbered 0 [(0, .ref r0)] [] h
  unfold f_X19_numbered at H
  refine x_aload_n 0 rfl dX19_numbered_0 ?_
  refine x_ldcS (tx := "coins") (a := 37) (List.mem_of_getElem? (i := 29) rfl) (by decide) (by decide) dX19_numbered_1 ?_
  obtain ⟨c1, H⟩ := oit H
  obtain ⟨a1, g1, e1, H⟩ := obR H
  refine x_callU (M' := mi_X6_is) (n := 1) (As := [.ref 37]) (t_X6_is C _ e1) c1 up_X19_35_7 (by decide +kernel) ⟨Nat.le_of_ble_eq_true rfl, Nat.le_of_ble_eq_true rfl⟩ q726 rfl (Nat.le_of_ble_eq_true rfl) dX19_numbered_3 ?_
  refine x_if_eq 13 dX19_numbered_6 (by decide) (fun c2 => ?_) (fun c2 => ?_)
  · rw [if_pos c2] at H
    refine x_aload_n 0 rfl dX19_numbered_13 ?_
    refine x_ldcS (tx := "friends") (a := 38) (List.mem_of_getElem? (i := 30) rfl) (by decide) (by decide) dX19_numbered_14 ?_
    obtain ⟨c3, H⟩ := oit H
    obtain ⟨a3, g3, e3, H⟩ := obR H
    refine x_callU (M' := mi_X6_is) (n := 1) (As := [.ref 38]) (t_X6_is C _ e3) c3 up_X19_35_7 (by decide +kernel) ⟨Nat.le_of_ble_eq_true rfl, Nat.le_of_ble_eq_true rfl⟩ q726 rfl (Nat.le_of_ble_eq_true rfl) dX19_numbered_16 ?_
    refine x_if_eq 26 dX19_numbered_19 (by decide) (fun c4 => ?_) (fun c4 => ?_)
    · rw [if_pos c4] at H
      refine x_aload_n 0 rfl dX19_numbered_26 ?_
      refine x_ldcS (tx := "hunger") (a := 39) (List.mem_of_getElem? (i := 31) rfl) (by decide) (by decide) dX19_numbered_27 ?_
      obtain ⟨c5, H⟩ := oit H
      obtain ⟨a5, g5, e5, H⟩ := obR H
      refine x_callU (M' := mi_X6_is) (n := 1) (As := [.ref 39]) (t_X6_is C _ e5) c5 up_X19_35_7 (by decide +kernel) ⟨Nat.le_of_ble_eq_true rfl, Nat.le_of_ble_eq_true rfl⟩ q726 rfl (Nat.le_of_ble_eq_true rfl) dX19_numbered_29 ?_
      refine x_if_eq 39 dX19_numbered_32 (by decide) (fun c6 => ?_) (fun c6 => ?_)
      · rw [if_pos c6] at H
        refine x_aload_n 0 rfl dX19_numbered_39 ?_
        refine x_ldcS (tx := "number") (a := 40) (List.mem_of_getElem? (i := 32) rfl) (by decide) (by decide) dX19_numbered_40 ?_
        obtain ⟨c7, H⟩ := oit H
        obtain ⟨a7, g7, e7, H⟩ := obR H
        refine x_callU (M' := mi_X6_is) (n := 1) (As := [.ref 40]) (t_X6_is C _ e7) c7 up_X19_35_7 (by decide +kernel) ⟨Nat.le_of_ble_eq_true rfl, Nat.le_of_ble_eq_true rfl⟩ q726 rfl (Nat.le_of_ble_eq_true rfl) dX19_numbered_42 ?_
        refine x_if_eq 52 dX19_numbered_45 (by decide) (fun c8 => ?_) (fun c8 => ?_)
        · rw [if_pos c8] at H
          refine x_iconst (-1 : Int32) dX19_numbered_52 ic_m1 ?_
          obtain rfl := Option.some.inj H
          exact x_iret hE rfl rfl dX19_numbered_53
        · rw [if_neg c8] at H
          refine x_iconst (3 : Int32) dX19_numbered_48 ic_3 ?_
          refine x_goto (tgt := 53) dX19_numbered_49 (by decide) ?_
          obtain rfl := Option.some.inj H
          exact x_iret hE rfl rfl dX19_numbered_53
      · rw [if_neg c6] at H
        refine x_iconst (2 : Int32) dX19_numbered_35 ic_2 ?_
        refine x_goto (tgt := 53) dX19_numbered_36 (by decide) ?_
        obtain rfl := Option.some.inj H
        exact x_iret hE rfl rfl dX19_numbered_53
    · rw [if_neg c4] at H
      refine x_iconst (1 : Int32) dX19_numbered_22 ic_1 ?_
      refine x_goto (tgt := 53) dX19_numbered_23 (by decide) ?_
      obtain rfl := Option.some.inj H
      exact x_iret hE rfl rfl dX19_numbered_53
  · rw [if_neg c2] at H
    refine x_iconst (0 : Int32) dX19_numbered_9 ic_0 ?_
    refine x_goto (tgt := 53) dX19_numbered_10 (by decide) ?_
    obtain rfl := Option.some.inj H
    exact x_iret hE rfl rfl dX19_numbered_53
abbrev mi_X19_plain : xM := (cX19_plain, yX19_plain, 1, some .int, 4)
theorem md_X19_plain : xMD mi_X19_plain 0 := ⟨by decide, by decide, by decide +kernel⟩
def f_X19_plain (r0 : Nat) (h : mH) : Option (Int32 × mH) := if gC h r0 ∈ [7] then bR (f_X6_is r0 33 h) fun a1 g1 => if a1 = 0 then if gC g1 r0 ∈ [7] then bR (f_X6_is r0 34 g1) fun a3 g3 => if a3 = 0 then if gC g3 r0 ∈ [7] then bR (f_X6_is r0 35 g3) fun a5 g5 => if a5 = 0 then if gC g5 r0 ∈ [7] then bR (f_X6_is r0 36 g5) fun a7 g7 => if a7 = 0 then some ((-1 : Int32), g7) else some ((3 : Int32), g7) else none else some ((2 : Int32), g5) else none else some ((1 : Int32), g3) else none else some ((0 : Int32), g1) else none
theorem t_X19_plain {G : xG} (C0 : xC) {l : Launch} {r0 : Nat} (h : mH) {o : Int32 × mH} (H : f_X19_plain r0 h = some o) : XR G l mi_X19_plain [.ref r0] h (some (.int o.1)) o.2 := by
  refine XR.of C0 (by decide) (Nat.le_of_ble_eq_true rfl) (fun C _ _ _ hE => ?_)
  show X G C mi_X19_plain 0 [(0, .ref r0)] [] h
  unfold f_X19_plain at H
  refine x_aload_n 0 rfl dX19_plain_0 ?_
  refine x_ldcS (tx := "home") (a := 33) (List.mem_of_getElem? (i := 25) rfl) (by decide) (by decide) dX19_plain_1 ?_
  obtain ⟨c1, H⟩ := oit H
  obtain ⟨a1, g1, e1, H⟩ := obR H
  refine x_callU (M' := mi_X6_is) (n := 1) (As := [.ref 33]) (t_X6_is C _ e1) c1 up_X19_35_7 (by decide +kernel) ⟨Nat.le_of_ble_eq_true rfl, Nat.le_of_ble_eq_true rfl⟩ q726 rfl (Nat.le_of_ble_eq_true rfl) dX19_plain_3 ?_
  refine x_if_eq 13 dX19_plain_6 (by decide) (fun c2 => ?_) (fun c2 => ?_)
  · rw [if_pos c2] at H
    refine x_aload_n 0 rfl dX19_plain_13 ?_
    refine x_ldcS (tx := "veiled") (a := 34) (List.mem_of_getElem? (i := 26) rfl) (by decide) (by decide) dX19_plain_14 ?_
    obtain ⟨c3, H⟩ := oit H
    obtain ⟨a3, g3, e3, H⟩ := obR H
    refine x_callU (M' := mi_X6_is) (n := 1) (As := [.ref 34]) (t_X6_is C _ e3) c3 up_X19_35_7 (by decide +kernel) ⟨Nat.le_of_ble_eq_true rfl, Nat.le_of_ble_eq_true rfl⟩ q726 rfl (Nat.le_of_ble_eq_true rfl) dX19_plain_16 ?_
    refine x_if_eq 26 dX19_plain_19 (by decide) (fun c4 => ?_) (fun c4 => ?_)
    · rw [if_pos c4] at H
      refine x_aload_n 0 rfl dX19_plain_26 ?_
      refine x_ldcS (tx := "fed") (a := 35) (List.mem_of_getElem? (i := 27) rfl) (by decide) (by decide) dX19_plain_27 ?_
      obtain ⟨c5, H⟩ := oit H
      obtain ⟨a5, g5, e5, H⟩ := obR H
      refine x_callU (M' := mi_X6_is) (n := 1) (As := [.ref 35]) (t_X6_is C _ e5) c5 up_X19_35_7 (by decide +kernel) ⟨Nat.le_of_ble_eq_true rfl, Nat.le_of_ble_eq_true rfl⟩ q726 rfl (Nat.le_of_ble_eq_true rfl) dX19_plain_29 ?_
      refine x_if_eq 39 dX19_plain_32 (by decide) (fun c6 => ?_) (fun c6 => ?_)
      · rw [if_pos c6] at H
        refine x_aload_n 0 rfl dX19_plain_39 ?_
        refine x_ldcS (tx := "sold") (a := 36) (List.mem_of_getElem? (i := 28) rfl) (by decide) (by decide) dX19_plain_40 ?_
        obtain ⟨c7, H⟩ := oit H
        obtain ⟨a7, g7, e7, H⟩ := obR H
        refine x_callU (M' := mi_X6_is) (n := 1) (As := [.ref 36]) (t_X6_is C _ e7) c7 up_X19_35_7 (by decide +kernel) ⟨Nat.le_of_ble_eq_true rfl, Nat.le_of_ble_eq_true rfl⟩ q726 rfl (Nat.le_of_ble_eq_true rfl) dX19_plain_42 ?_
        refine x_if_eq 52 dX19_plain_45 (by decide) (fun c8 => ?_) (fun c8 => ?_)
        · rw [if_pos c8] at H
          refine x_iconst (-1 : Int32) dX19_plain_52 ic_m1 ?_
          obtain rfl := Option.some.inj H
          exact x_iret hE rfl rfl dX19_plain_53
        · rw [if_neg c8] at H
          refine x_iconst (3 : Int32) dX19_plain_48 ic_3 ?_
          refine x_goto (tgt := 53) dX19_plain_49 (by decide) ?_
          obtain rfl := Option.some.inj H
          exact x_iret hE rfl rfl dX19_plain_53
      · rw [if_neg c6] at H
        refine x_iconst (2 : Int32) dX19_plain_35 ic_2 ?_
        refine x_goto (tgt := 53) dX19_plain_36 (by decide) ?_
        obtain rfl := Option.some.inj H
        exact x_iret hE rfl rfl dX19_plain_53
    · rw [if_neg c4] at H
      refine x_iconst (1 : Int32) dX19_plain_22 ic_1 ?_
      refine x_goto (tgt := 53) dX19_plain_23 (by decide) ?_
      obtain rfl := Option.some.inj H
      exact x_iret hE rfl rfl dX19_plain_53
  · rw [if_neg c2] at H
    refine x_iconst (0 : Int32) dX19_plain_9 ic_0 ?_
    refine x_goto (tgt := 53) dX19_plain_10 (by decide) ?_
    obtain rfl := Option.some.inj H
    exact x_iret hE rfl rfl dX19_plain_53
abbrev mi_X20_init : xM := (cX20_init, yX20_init, 1, none, 1)
theorem md_X20_init : xMD mi_X20_init 0 := ⟨by decide, by decide, by decide +kernel⟩
def f_X20_init (r0 : Nat) (h : mH) : Option (Unit × mH) := if 6 ≤ r0 then some ((), h) else none
theorem t_X20_init {G : xG} (C0 : xC) {l : Launch} {r0 : Nat} (h : mH) {o : Unit × mH} (H : f_X20_init r0 h = some o) : XR G l mi_X20_init [.ref r0] h none o.2 := by
  refine XR.of C0 (by decide) (Nat.le_of_ble_eq_true rfl) (fun C _ _ _ hE => ?_)
  show X G C mi_X20_init 0 [(0, .ref r0)] [] h
  unfold f_X20_init at H
  refine x_aload_n 0 rfl dX20_init_0 ?_
  obtain ⟨c1, H⟩ := oit H
  refine x_oinit c1 (by decide) q1725 q170 q171 (Nat.le_of_ble_eq_true rfl) dX20_init_1 ?_
  obtain rfl := Option.some.inj H
  exact x_vret hE rfl dX20_init_4
abbrev mi_X24_init : xM := (cX24_init, yX24_init, 4, none, 2)
theorem md_X24_init : xMD mi_X24_init 3 := ⟨by decide, by decide, by decide +kernel⟩
def f_X24_init (r0 : Nat) (x1 : Int32) (x2 : Int32) (x3 : Int32) (h : mH) : Option (Unit × mH) := if 6 ≤ r0 then bR (f_X20_init r0  h) fun a1 g1 => (pF [19] 0 (.int x1) g1 r0).bind fun h2 => (pF [19] 1 (.int x2) h2 r0).bind fun h3 => (pF [19] 2 (.int x3) h3 r0).bind fun h4 => some ((), h4) else none
theorem t_X24_init {G : xG} (C0 : xC) {l : Launch} {r0 : Nat} {x1 : Int32} {x2 : Int32} {x3 : Int32} (h : mH) {o : Unit × mH} (H : f_X24_init r0 x1 x2 x3 h = some o) : XR G l mi_X24_init [.ref r0, .int x1, .int x2, .int x3] h none o.2 := by
  refine XR.of C0 (by decide) (Nat.le_of_ble_eq_true rfl) (fun C _ _ _ hE => ?_)
  show X G C mi_X24_init 0 [(0, .ref r0), (1, .int x1), (2, .int x2), (3, .int x3)] [] h
  unfold f_X24_init at H
  refine x_aload_n 0 rfl dX24_init_0 ?_
  obtain ⟨c1, H⟩ := oit H
  obtain ⟨a1, g1, e1, H⟩ := obR H
  refine x_callIN (M' := mi_X20_init) (n := 0) (As := []) (t_X20_init C _ e1) c1 md_X20_init ⟨Nat.le_of_ble_eq_true rfl, Nat.le_of_ble_eq_true rfl⟩ rfl rfl q1768 q1723 q158 q1724 rfl (Nat.le_of_ble_eq_true rfl) dX24_init_1 ?_
  refine x_aload_n 0 rfl dX24_init_4 ?_
  refine x_iload_n 1 rfl dX24_init_5 ?_
  obtain ⟨h2, e2, H⟩ := ob H
  refine x_putf fp_X24_7 rfl rfl e2 dX24_init_6 ?_
  refine x_aload_n 0 rfl dX24_init_9 ?_
  refine x_iload_n 2 rfl dX24_init_10 ?_
  obtain ⟨h3, e3, H⟩ := ob H
  refine x_putf fp_X24_13 rfl rfl e3 dX24_init_11 ?_
  refine x_aload_n 0 rfl dX24_init_14 ?_
  refine x_iload_n 3 rfl dX24_init_15 ?_
  obtain ⟨h4, e4, H⟩ := ob H
  refine x_putf fp_X24_16 rfl rfl e4 dX24_init_16 ?_
  obtain rfl := Option.some.inj H
  exact x_vret hE rfl dX24_init_19
abbrev mi_X19_than : xM := (cX19_than, yX19_than, 3, some (.object "StrangerMarket$Cond"), 11)
theorem md_X19_than : xMD mi_X19_than 1 := ⟨by decide, by decide, by decide +kernel⟩
def f_X19_than_b33 (r0 : Nat) (x1 : Int32) (s0 : Nat) (s1 : Int32) (h : mH) : Option ((Nat ⊕ Nat) × mH) := if gC h s0 ∈ [7] then bT (f_X6_need s0 s1 (1 : Int32) h) fun v3 h3 => (gFi [7] 7 h3 r0).bind fun v4 => if gC h3 r0 ∈ [7] then bR (f_X6_go r0  h3) fun a5 g5 => if gC (xnw g5 (.inr (19, [.int 0, .int 0, .int 0])) 3) r0 ∈ [7] then bT (f_X6_number r0 (0 : Int32) (999 : Int32) (xnw g5 (.inr (19, [.int 0, .int 0, .int 0])) 3)) fun v6 h6 => if 6 ≤ g5.2.1 then bR (f_X24_init g5.2.1 x1 v4 v6 h6) fun a7 g7 => some (.inl (g5.2.1), g7) else none else none else none else none
theorem t_X19_than_b33 {G : xG} {C : xC} {o : (Nat ⊕ Nat) × mH} (hE : xEndT G C [] (xoA "StrangerMarket$Fault" o.1) o.2) (r0 : Nat) (x1 : Int32) (s0 : Nat) (s1 : Int32) (h : mH) (H : f_X19_than_b33 r0 x1 s0 s1 h = some o) : X G C mi_X19_than 33 [(0, .ref r0), (1, .int x1)] [.int s1, .ref s0] h := by
  unfold f_X19_than_b33 at H
  refine x_iconst (1 : Int32) dX19_than_33 ic_1 ?_
  obtain ⟨c3, H⟩ := oit H
  rcases obT H with ⟨a3, h3, e3, rfl⟩ | ⟨v3, h3, e3, H⟩
  · exact x_goX (t_X6_need C _ e3) (x_rU (M' := mi_X6_need) (n := 2) (As := [.int s1, .int (1 : Int32)]) (t_X6_need C _ e3) c3 up_X19_27_7 (by decide +kernel) ⟨Nat.le_of_ble_eq_true rfl, Nat.le_of_ble_eq_true rfl⟩ q749 rfl (Nat.le_of_ble_eq_true rfl) dX19_than_34) hE
  refine x_goR (r := none) (t_X6_need C _ e3) (x_rU (M' := mi_X6_need) (n := 2) (As := [.int s1, .int (1 : Int32)]) (t_X6_need C _ e3) c3 up_X19_27_7 (by decide +kernel) ⟨Nat.le_of_ble_eq_true rfl, Nat.le_of_ble_eq_true rfl⟩ q749 rfl (Nat.le_of_ble_eq_true rfl) dX19_than_34) ?_
  refine x_aload_n 0 rfl dX19_than_37 ?_
  obtain ⟨v4, e4, H⟩ := ob H
  refine x_getf fg_X19_64 (gFi_spec e4) dX19_than_38 ?_
  refine x_istore_n [1, 2, 0] dX19_than_41 (by decide) rfl ?_
  refine x_aload_n 0 rfl dX19_than_42 ?_
  obtain ⟨c5, H⟩ := oit H
  obtain ⟨a5, g5, e5, H⟩ := obR H
  refine x_callU (M' := mi_X6_go) (n := 0) (As := []) (t_X6_go C _ e5) c5 up_X19_15_7 (by decide +kernel) ⟨Nat.le_of_ble_eq_true rfl, Nat.le_of_ble_eq_true rfl⟩ q522 rfl (Nat.le_of_ble_eq_true rfl) dX19_than_43 ?_
  refine x_new (fs := [.int 0, .int 0, .int 0]) ci_19 q1760 q1761 q162 (nf_X24 G) rfl dX19_than_46 ?_
  refine x_dup dX19_than_49 rfl ?_
  refine x_iload_n 1 rfl dX19_than_50 ?_
  refine x_iload_n 2 rfl dX19_than_51 ?_
  refine x_aload_n 0 rfl dX19_than_52 ?_
  refine x_iconst (0 : Int32) dX19_than_53 ic_0 ?_
  refine x_sipush (999 : Int32) dX19_than_54 si_999 ?_
  obtain ⟨c6, H⟩ := oit H
  rcases obT H with ⟨a6, h6, e6, rfl⟩ | ⟨v6, h6, e6, H⟩
  · exact x_goX (t_X6_number C _ e6) (x_rU (M' := mi_X6_number) (n := 2) (As := [.int (0 : Int32), .int (999 : Int32)]) (t_X6_number C _ e6) c6 up_X19_122_7 (by decide +kernel) ⟨Nat.le_of_ble_eq_true rfl, Nat.le_of_ble_eq_true rfl⟩ q918 rfl (Nat.le_of_ble_eq_true rfl) dX19_than_57) hE
  refine x_goR (r := (some (.int v6))) (t_X6_number C _ e6) (x_rU (M' := mi_X6_number) (n := 2) (As := [.int (0 : Int32), .int (999 : Int32)]) (t_X6_number C _ e6) c6 up_X19_122_7 (by decide +kernel) ⟨Nat.le_of_ble_eq_true rfl, Nat.le_of_ble_eq_true rfl⟩ q918 rfl (Nat.le_of_ble_eq_true rfl) dX19_than_57) ?_
  obtain ⟨c7, H⟩ := oit H
  obtain ⟨a7, g7, e7, H⟩ := obR H
  refine x_callI (M' := mi_X24_init) (n := 3) (As := [.int x1, .int v4, .int v6]) (t_X24_init C _ e7) c7 md_X24_init ⟨Nat.le_of_ble_eq_true rfl, Nat.le_of_ble_eq_true rfl⟩ rfl rfl q1765 q1766 q162 q1767 rfl (Nat.le_of_ble_eq_true rfl) dX19_than_60 ?_
  obtain rfl := Option.some.inj H
  exact x_aretT hE rfl (by first | exact Or.inl ⟨_, rfl⟩ | exact Or.inr ⟨_, rfl⟩) dX19_than_63
def f_X19_than_b32 (r0 : Nat) (x1 : Int32) (s0 : Nat) (h : mH) : Option ((Nat ⊕ Nat) × mH) := f_X19_than_b33 r0 x1 s0 (0 : Int32) h
theorem t_X19_than_b32 {G : xG} {C : xC} {o : (Nat ⊕ Nat) × mH} (hE : xEndT G C [] (xoA "StrangerMarket$Fault" o.1) o.2) (r0 : Nat) (x1 : Int32) (s0 : Nat) (h : mH) (H : f_X19_than_b32 r0 x1 s0 h = some o) : X G C mi_X19_than 32 [(0, .ref r0), (1, .int x1)] [.ref s0] h := by
  unfold f_X19_than_b32 at H
  refine x_iconst (0 : Int32) dX19_than_32 ic_0 ?_
  exact t_X19_than_b33 hE _ _ _ _ _ H
def f_X19_than (r0 : Nat) (x1 : Int32) (h : mH) : Option ((Nat ⊕ Nat) × mH) := (gFi [7] 4 h r0).bind fun v1 => if v1 = (6 : Int32) then (gFi [7] 7 h r0).bind fun v8 => if v8 = (40 : Int32) then f_X19_than_b32 r0 x1 r0 h else (gFi [7] 7 h r0).bind fun v10 => if v10 = (41 : Int32) then f_X19_than_b32 r0 x1 r0 h else f_X19_than_b33 r0 x1 r0 (1 : Int32) h else f_X19_than_b32 r0 x1 r0 h
theorem t_X19_than {G : xG} (C0 : xC) {l : Launch} {r0 : Nat} {x1 : Int32} (h : mH) {o : (Nat ⊕ Nat) × mH} (H : f_X19_than r0 x1 h = some o) : XT G l mi_X19_than [.ref r0, .int x1] h (xoA "StrangerMarket$Fault" o.1) o.2 := by
  refine XT.of C0 (by decide) (Nat.le_of_ble_eq_true rfl) (fun C _ _ _ hE => ?_)
  show X G C mi_X19_than 0 [(0, .ref r0), (1, .int x1)] [] h
  unfold f_X19_than at H
  refine x_aload_n 0 rfl dX19_than_0 ?_
  refine x_aload_n 0 rfl dX19_than_1 ?_
  obtain ⟨v1, e1, H⟩ := ob H
  refine x_getf fg_X19_23 (gFi_spec e1) dX19_than_2 ?_
  refine x_bipush (6 : Int32) dX19_than_5 bi_6 ?_
  refine x_icmp_ne 32 dX19_than_7 (by decide) (fun c2 => ?_) (fun c2 => ?_)
  · rw [if_neg c2] at H
    exact t_X19_than_b32 hE _ _ _ _ H
  · rw [if_pos c2] at H
    refine x_aload_n 0 rfl dX19_than_10 ?_
    obtain ⟨v8, e8, H⟩ := ob H
    refine x_getf fg_X19_64 (gFi_spec e8) dX19_than_11 ?_
    refine x_bipush (40 : Int32) dX19_than_14 bi_40 ?_
    refine x_icmp_eq 32 dX19_than_16 (by decide) (fun c9 => ?_) (fun c9 => ?_)
    · rw [if_pos c9] at H
      exact t_X19_than_b32 hE _ _ _ _ H
    · rw [if_neg c9] at H
      refine x_aload_n 0 rfl dX19_than_19 ?_
      obtain ⟨v10, e10, H⟩ := ob H
      refine x_getf fg_X19_64 (gFi_spec e10) dX19_than_20 ?_
      refine x_bipush (41 : Int32) dX19_than_23 bi_41 ?_
      refine x_icmp_eq 32 dX19_than_25 (by decide) (fun c11 => ?_) (fun c11 => ?_)
      · rw [if_pos c11] at H
        exact t_X19_than_b32 hE _ _ _ _ H
      · rw [if_neg c11] at H
        refine x_iconst (1 : Int32) dX19_than_28 ic_1 ?_
        refine x_goto (tgt := 33) dX19_than_29 (by decide) ?_
        exact t_X19_than_b33 hE _ _ _ _ _ H
abbrev mi_X21_init : xM := (cX21_init, yX21_init, 2, none, 2)
theorem md_X21_init : xMD mi_X21_init 1 := ⟨by decide, by decide, by decide +kernel⟩
def f_X21_init (r0 : Nat) (r1 : Nat) (h : mH) : Option (Unit × mH) := if 6 ≤ r0 then bR (f_X20_init r0  h) fun a1 g1 => (pF [16] 0 (.ref r1) g1 r0).bind fun h2 => some ((), h2) else none
theorem t_X21_init {G : xG} (C0 : xC) {l : Launch} {r0 : Nat} {r1 : Nat} (h : mH) {o : Unit × mH} (H : f_X21_init r0 r1 h = some o) : XR G l mi_X21_init [.ref r0, .ref r1] h none o.2 := by
  refine XR.of C0 (by decide) (Nat.le_of_ble_eq_true rfl) (fun C _ _ _ hE => ?_)
  show X G C mi_X21_init 0 [(0, .ref r0), (1, .ref r1)] [] h
  unfold f_X21_init at H
  refine x_aload_n 0 rfl dX21_init_0 ?_
  obtain ⟨c1, H⟩ := oit H
  obtain ⟨a1, g1, e1, H⟩ := obR H
  refine x_callIN (M' := mi_X20_init) (n := 0) (As := []) (t_X20_init C _ e1) c1 md_X20_init ⟨Nat.le_of_ble_eq_true rfl, Nat.le_of_ble_eq_true rfl⟩ rfl rfl q1722 q1723 q158 q1724 rfl (Nat.le_of_ble_eq_true rfl) dX21_init_1 ?_
  refine x_aload_n 0 rfl dX21_init_4 ?_
  refine x_aload_n 1 rfl dX21_init_5 ?_
  obtain ⟨h2, e2, H⟩ := ob H
  refine x_putf fp_X21_7 rfl rfl e2 dX21_init_6 ?_
  obtain rfl := Option.some.inj H
  exact x_vret hE rfl dX21_init_9
abbrev mi_X22_init : xM := (cX22_init, yX22_init, 3, none, 2)
theorem md_X22_init : xMD mi_X22_init 2 := ⟨by decide, by decide, by decide +kernel⟩
def f_X22_init (r0 : Nat) (x1 : Int32) (x2 : Int32) (h : mH) : Option (Unit × mH) := if 6 ≤ r0 then bR (f_X20_init r0  h) fun a1 g1 => if x1 = 0 ∨ x1 = 1 then (pF [17] 0 (.int x1) g1 r0).bind fun h2 => (pF [17] 1 (.int x2) h2 r0).bind fun h3 => some ((), h3) else none else none
theorem t_X22_init {G : xG} (C0 : xC) {l : Launch} {r0 : Nat} {x1 : Int32} {x2 : Int32} (h : mH) {o : Unit × mH} (H : f_X22_init r0 x1 x2 h = some o) : XR G l mi_X22_init [.ref r0, .int x1, .int x2] h none o.2 := by
  refine XR.of C0 (by decide) (Nat.le_of_ble_eq_true rfl) (fun C _ _ _ hE => ?_)
  show X G C mi_X22_init 0 [(0, .ref r0), (1, .int x1), (2, .int x2)] [] h
  unfold f_X22_init at H
  refine x_aload_n 0 rfl dX22_init_0 ?_
  obtain ⟨c1, H⟩ := oit H
  obtain ⟨a1, g1, e1, H⟩ := obR H
  refine x_callIN (M' := mi_X20_init) (n := 0) (As := []) (t_X20_init C _ e1) c1 md_X20_init ⟨Nat.le_of_ble_eq_true rfl, Nat.le_of_ble_eq_true rfl⟩ rfl rfl q1738 q1723 q158 q1724 rfl (Nat.le_of_ble_eq_true rfl) dX22_init_1 ?_
  refine x_aload_n 0 rfl dX22_init_4 ?_
  refine x_iload_n 1 rfl dX22_init_5 ?_
  obtain ⟨c2, H⟩ := oit H
  obtain ⟨h2, e2, H⟩ := ob H
  refine x_putf fp_X22_9 (nzZ c2) (fzZ c2) e2 dX22_init_6 ?_
  refine x_aload_n 0 rfl dX22_init_9 ?_
  refine x_iload_n 2 rfl dX22_init_10 ?_
  obtain ⟨h3, e3, H⟩ := ob H
  refine x_putf fp_X22_15 rfl rfl e3 dX22_init_11 ?_
  obtain rfl := Option.some.inj H
  exact x_vret hE rfl dX22_init_14
abbrev mi_X23_init : xM := (cX23_init, yX23_init, 2, none, 2)
theorem md_X23_init : xMD mi_X23_init 1 := ⟨by decide, by decide, by decide +kernel⟩
def f_X23_init (r0 : Nat) (x1 : Int32) (h : mH) : Option (Unit × mH) := if 6 ≤ r0 then bR (f_X20_init r0  h) fun a1 g1 => (pF [18] 0 (.int x1) g1 r0).bind fun h2 => some ((), h2) else none
theorem t_X23_init {G : xG} (C0 : xC) {l : Launch} {r0 : Nat} {x1 : Int32} (h : mH) {o : Unit × mH} (H : f_X23_init r0 x1 h = some o) : XR G l mi_X23_init [.ref r0, .int x1] h none o.2 := by
  refine XR.of C0 (by decide) (Nat.le_of_ble_eq_true rfl) (fun C _ _ _ hE => ?_)
  show X G C mi_X23_init 0 [(0, .ref r0), (1, .int x1)] [] h
  unfold f_X23_init at H
  refine x_aload_n 0 rfl dX23_init_0 ?_
  obtain ⟨c1, H⟩ := oit H
  obtain ⟨a1, g1, e1, H⟩ := obR H
  refine x_callIN (M' := mi_X20_init) (n := 0) (As := []) (t_X20_init C _ e1) c1 md_X20_init ⟨Nat.le_of_ble_eq_true rfl, Nat.le_of_ble_eq_true rfl⟩ rfl rfl q1751 q1723 q158 q1724 rfl (Nat.le_of_ble_eq_true rfl) dX23_init_1 ?_
  refine x_aload_n 0 rfl dX23_init_4 ?_
  refine x_iload_n 1 rfl dX23_init_5 ?_
  obtain ⟨h2, e2, H⟩ := ob H
  refine x_putf fp_X23_7 rfl rfl e2 dX23_init_6 ?_
  obtain rfl := Option.some.inj H
  exact x_vret hE rfl dX23_init_9
abbrev mi_X25_init : xM := (cX25_init, yX25_init, 4, none, 2)
theorem md_X25_init : xMD mi_X25_init 3 := ⟨by decide, by decide, by decide +kernel⟩
def f_X25_init (r0 : Nat) (r1 : Nat) (r2 : Nat) (x3 : Int32) (h : mH) : Option (Unit × mH) := if 6 ≤ r0 then bR (f_X20_init r0  h) fun a1 g1 => (pF [20] 0 (.ref r1) g1 r0).bind fun h2 => (pF [20] 1 (.ref r2) h2 r0).bind fun h3 => if x3 = 0 ∨ x3 = 1 then (pF [20] 2 (.int x3) h3 r0).bind fun h4 => some ((), h4) else none else none
theorem t_X25_init {G : xG} (C0 : xC) {l : Launch} {r0 : Nat} {r1 : Nat} {r2 : Nat} {x3 : Int32} (h : mH) {o : Unit × mH} (H : f_X25_init r0 r1 r2 x3 h = some o) : XR G l mi_X25_init [.ref r0, .ref r1, .ref r2, .int x3] h none o.2 := by
  refine XR.of C0 (by decide) (Nat.le_of_ble_eq_true rfl) (fun C _ _ _ hE => ?_)
  show X G C mi_X25_init 0 [(0, .ref r0), (1, .ref r1), (2, .ref r2), (3, .int x3)] [] h
  unfold f_X25_init at H
  refine x_aload_n 0 rfl dX25_init_0 ?_
  obtain ⟨c1, H⟩ := oit H
  obtain ⟨a1, g1, e1, H⟩ := obR H
  refine x_callIN (M' := mi_X20_init) (n := 0) (As := []) (t_X20_init C _ e1) c1 md_X20_init ⟨Nat.le_of_ble_eq_true rfl, Nat.le_of_ble_eq_true rfl⟩ rfl rfl q1785 q1723 q158 q1724 rfl (Nat.le_of_ble_eq_true rfl) dX25_init_1 ?_
  refine x_aload_n 0 rfl dX25_init_4 ?_
  refine x_aload_n 1 rfl dX25_init_5 ?_
  obtain ⟨h2, e2, H⟩ := ob H
  refine x_putf fp_X25_7 rfl rfl e2 dX25_init_6 ?_
  refine x_aload_n 0 rfl dX25_init_9 ?_
  refine x_aload_n 2 rfl dX25_init_10 ?_
  obtain ⟨h3, e3, H⟩ := ob H
  refine x_putf fp_X25_13 rfl rfl e3 dX25_init_11 ?_
  refine x_aload_n 0 rfl dX25_init_14 ?_
  refine x_iload_n 3 rfl dX25_init_15 ?_
  obtain ⟨c4, H⟩ := oit H
  obtain ⟨h4, e4, H⟩ := ob H
  refine x_putf fp_X25_16 (nzZ c4) (fzZ c4) e4 dX25_init_16 ?_
  obtain rfl := Option.some.inj H
  exact x_vret hE rfl dX25_init_19
abbrev mi_X19_and (d : Nat) : xM := (cX19_and, yX19_and, 2, some (.object "StrangerMarket$Cond"), 13 + d)
abbrev mi_X19_bracket (d : Nat) : xM := (cX19_bracket, yX19_bracket, 2, some (.object "StrangerMarket$Cond"), 13 + d)
abbrev mi_X19_or (d : Nat) : xM := (cX19_or, yX19_or, 2, some (.object "StrangerMarket$Cond"), 13 + d)
abbrev mi_X19_says (d : Nat) : xM := (cX19_says, yX19_says, 8, some (.object "StrangerMarket$Cond"), 13 + d)
theorem md_X19_and (d : Nat) : xMD (mi_X19_and d) 0 := ⟨by first | decide | (dsimp only [mi_X19_and, mi_X19_bracket, mi_X19_or, mi_X19_says]; decide), by first | decide | (dsimp only [mi_X19_and, mi_X19_bracket, mi_X19_or, mi_X19_says]; decide), by first | decide +kernel | (dsimp only [mi_X19_and, mi_X19_bracket, mi_X19_or, mi_X19_says]; decide +kernel)⟩
theorem md_X19_bracket (d : Nat) : xMD (mi_X19_bracket d) 0 := ⟨by first | decide | (dsimp only [mi_X19_and, mi_X19_bracket, mi_X19_or, mi_X19_says]; decide), by first | decide | (dsimp only [mi_X19_and, mi_X19_bracket, mi_X19_or, mi_X19_says]; decide), by first | decide +kernel | (dsimp only [mi_X19_and, mi_X19_bracket, mi_X19_or, mi_X19_says]; decide +kernel)⟩
theorem md_X19_or (d : Nat) : xMD (mi_X19_or d) 0 := ⟨by first | decide | (dsimp only [mi_X19_and, mi_X19_bracket, mi_X19_or, mi_X19_says]; decide), by first | decide | (dsimp only [mi_X19_and, mi_X19_bracket, mi_X19_or, mi_X19_says]; decide), by first | decide +kernel | (dsimp only [mi_X19_and, mi_X19_bracket, mi_X19_or, mi_X19_says]; decide +kernel)⟩
theorem md_X19_says (d : Nat) : xMD (mi_X19_says d) 0 := ⟨by first | decide | (dsimp only [mi_X19_and, mi_X19_bracket, mi_X19_or, mi_X19_says]; decide), by first | decide | (dsimp only [mi_X19_and, mi_X19_bracket, mi_X19_or, mi_X19_says]; decide), by first | decide +kernel | (dsimp only [mi_X19_and, mi_X19_bracket, mi_X19_or, mi_X19_says]; decide +kernel)⟩
def f_X19_and_L5 (rc_X19_and : Nat → mH → Option ((Nat ⊕ Nat) × mH)) (rc_X19_bracket : Nat → mH → Option ((Nat ⊕ Nat) × mH)) (rc_X19_or : Nat → mH → Option ((Nat ⊕ Nat) × mH)) (rc_X19_says : Nat → mH → Option ((Nat ⊕ Nat) × mH)) : Nat → Nat → Nat → mH → Option ((Nat ⊕ Nat) × mH)
  | 0, _, _, _ => none
  | n + 1, r0, r1, h => if gC h r0 ∈ [7] then bR (f_X6_is r0 41 h) fun a2 g2 => if a2 = 0 then some (.inl (r1), g2) else if gC g2 r0 ∈ [7] then bR (f_X6_go r0  g2) fun a4 g4 => if gC (xnw g4 (.inr (20, [.ref 0, .ref 0, .int 0])) 3) r0 = 7 then bT (rc_X19_says r0  (xnw g4 (.inr (20, [.ref 0, .ref 0, .int 0])) 3)) fun v5 h5 => if 6 ≤ g4.2.1 then bR (f_X25_init g4.2.1 r1 v5 (1 : Int32) h5) fun a6 g6 => (f_X19_and_L5 rc_X19_and rc_X19_bracket rc_X19_or rc_X19_says n) r0 g4.2.1 g6 else none else none else none else none
theorem t_X19_and_L5 {G : xG} {C : xC} {d : Nat} {rc_X19_and : Nat → mH → Option ((Nat ⊕ Nat) × mH)} (hrc_X19_and : ∀ {l : Launch} {r0 : Nat} (h : mH) {o : (Nat ⊕ Nat) × mH}, rc_X19_and r0 h = some o → XT G l (mi_X19_and d) [.ref r0] h (xoA "StrangerMarket$Fault" o.1) o.2) {rc_X19_bracket : Nat → mH → Option ((Nat ⊕ Nat) × mH)} (hrc_X19_bracket : ∀ {l : Launch} {r0 : Nat} (h : mH) {o : (Nat ⊕ Nat) × mH}, rc_X19_bracket r0 h = some o → XT G l (mi_X19_bracket d) [.ref r0] h (xoA "StrangerMarket$Fault" o.1) o.2) {rc_X19_or : Nat → mH → Option ((Nat ⊕ Nat) × mH)} (hrc_X19_or : ∀ {l : Launch} {r0 : Nat} (h : mH) {o : (Nat ⊕ Nat) × mH}, rc_X19_or r0 h = some o → XT G l (mi_X19_or d) [.ref r0] h (xoA "StrangerMarket$Fault" o.1) o.2) {rc_X19_says : Nat → mH → Option ((Nat ⊕ Nat) × mH)} (hrc_X19_says : ∀ {l : Launch} {r0 : Nat} (h : mH) {o : (Nat ⊕ Nat) × mH}, rc_X19_says r0 h = some o → XT G l (mi_X19_says d) [.ref r0] h (xoA "StrangerMarket$Fault" o.1) o.2) {o : (Nat ⊕ Nat) × mH} (hE : xEndT G C [] (xoA "StrangerMarket$Fault" o.1) o.2) : ∀ (n : Nat) (r0 : Nat) (r1 : Nat) (h : mH), f_X19_and_L5 rc_X19_and rc_X19_bracket rc_X19_or rc_X19_says n r0 r1 h = some o → X G C (mi_X19_and (d + 1)) 5 [(0, .ref r0), (1, .ref r1)] [] h := by
  intro n
  induction n with
  | zero => intro r0 r1 h H; exact nomatch (show (none : Option ((Nat ⊕ Nat) × mH)) = some o from H)
  | succ n ih =>
    intro r0 r1 h H
    rw [f_X19_and_L5] at H
    refine x_aload_n 0 rfl dX19_and_5 ?_
    refine x_ldcS (tx := "and") (a := 41) (List.mem_of_getElem? (i := 33) rfl) (by first | decide | (dsimp only [mi_X19_and, mi_X19_bracket, mi_X19_or, mi_X19_says]; decide)) (by first | decide | (dsimp only [mi_X19_and, mi_X19_bracket, mi_X19_or, mi_X19_says]; decide)) dX19_and_6 ?_
    obtain ⟨c2, H⟩ := oit H
    obtain ⟨a2, g2, e2, H⟩ := obR H
    refine x_callU (M' := mi_X6_is) (n := 1) (As := [.ref 41]) (t_X6_is C _ e2) c2 up_X19_35_7 (by first | decide +kernel | (dsimp only [mi_X19_and, mi_X19_bracket, mi_X19_or, mi_X19_says]; decide +kernel)) ⟨by show 3 + 1 ≤ 13 + (d + 1); omega, Nat.le_of_ble_eq_true rfl⟩ q726 rfl (Nat.le_of_ble_eq_true rfl) dX19_and_8 ?_
    refine x_if_eq 35 dX19_and_11 (by first | decide | (dsimp only [mi_X19_and, mi_X19_bracket, mi_X19_or, mi_X19_says]; decide)) (fun c3 => ?_) (fun c3 => ?_)
    · rw [if_pos c3] at H
      refine x_aload_n 1 rfl dX19_and_35 ?_
      obtain rfl := Option.some.inj H
      exact x_aretT hE rfl (by first | exact Or.inl ⟨_, rfl⟩ | exact Or.inr ⟨_, rfl⟩) dX19_and_36
    · rw [if_neg c3] at H
      refine x_aload_n 0 rfl dX19_and_14 ?_
      obtain ⟨c4, H⟩ := oit H
      obtain ⟨a4, g4, e4, H⟩ := obR H
      refine x_callU (M' := mi_X6_go) (n := 0) (As := []) (t_X6_go C _ e4) c4 up_X19_15_7 (by first | decide +kernel | (dsimp only [mi_X19_and, mi_X19_bracket, mi_X19_or, mi_X19_says]; decide +kernel)) ⟨by show 9 + 1 ≤ 13 + (d + 1); omega, Nat.le_of_ble_eq_true rfl⟩ q522 rfl (Nat.le_of_ble_eq_true rfl) dX19_and_15 ?_
      refine x_new (fs := [.ref 0, .ref 0, .int 0]) ci_20 q1780 q1781 q163 (nf_X25 G) rfl dX19_and_18 ?_
      refine x_dup dX19_and_21 rfl ?_
      refine x_aload_n 1 rfl dX19_and_22 ?_
      refine x_aload_n 0 rfl dX19_and_23 ?_
      obtain ⟨c5, H⟩ := oit H
      rcases obT H with ⟨a5, h5, e5, rfl⟩ | ⟨v5, h5, e5, H⟩
      · exact x_goX (hrc_X19_says _ e5) (x_rV (M' := (mi_X19_says d)) (n := 0) (As := []) (hrc_X19_says _ e5) c5 rfl rfl (md_X19_says d) ⟨by show 13 + d + 1 ≤ 13 + (d + 1); omega, Nat.le_of_ble_eq_true rfl⟩ q1684 q1686 qs44 q157 q1687 rfl (Nat.le_of_ble_eq_true rfl) dX19_and_24) hE
      refine x_goR (r := (some (.ref v5))) (hrc_X19_says _ e5) (x_rV (M' := (mi_X19_says d)) (n := 0) (As := []) (hrc_X19_says _ e5) c5 rfl rfl (md_X19_says d) ⟨by show 13 + d + 1 ≤ 13 + (d + 1); omega, Nat.le_of_ble_eq_true rfl⟩ q1684 q1686 qs44 q157 q1687 rfl (Nat.le_of_ble_eq_true rfl) dX19_and_24) ?_
      refine x_iconst (1 : Int32) dX19_and_27 ic_1 ?_
      obtain ⟨c6, H⟩ := oit H
      obtain ⟨a6, g6, e6, H⟩ := obR H
      refine x_callI (M' := mi_X25_init) (n := 3) (As := [.ref r1, .ref v5, .int (1 : Int32)]) (t_X25_init C _ e6) c6 md_X25_init ⟨by show 2 + 1 ≤ 13 + (d + 1); omega, Nat.le_of_ble_eq_true rfl⟩ rfl rfl q1782 q1783 q163 q1784 rfl (Nat.le_of_ble_eq_true rfl) dX19_and_28 ?_
      refine x_astore_n [1, 0] dX19_and_31 (by first | decide | (dsimp only [mi_X19_and, mi_X19_bracket, mi_X19_or, mi_X19_says]; decide)) rfl ?_
      refine x_goto (tgt := 5) dX19_and_32 (by first | decide | (dsimp only [mi_X19_and, mi_X19_bracket, mi_X19_or, mi_X19_says]; decide)) ?_
      exact ih _ _ _ H
def fb_X19_and (rc_X19_and : Nat → mH → Option ((Nat ⊕ Nat) × mH)) (rc_X19_bracket : Nat → mH → Option ((Nat ⊕ Nat) × mH)) (rc_X19_or : Nat → mH → Option ((Nat ⊕ Nat) × mH)) (rc_X19_says : Nat → mH → Option ((Nat ⊕ Nat) × mH)) (r0 : Nat) (h : mH) : Option ((Nat ⊕ Nat) × mH) := if gC h r0 = 7 then bT (rc_X19_says r0  h) fun v1 h1 => f_X19_and_L5 rc_X19_and rc_X19_bracket rc_X19_or rc_X19_says  xFu r0 v1 h1 else none
theorem tb_X19_and {G : xG} (C0 : xC) {d : Nat} {rc_X19_and : Nat → mH → Option ((Nat ⊕ Nat) × mH)} (hrc_X19_and : ∀ {l : Launch} {r0 : Nat} (h : mH) {o : (Nat ⊕ Nat) × mH}, rc_X19_and r0 h = some o → XT G l (mi_X19_and d) [.ref r0] h (xoA "StrangerMarket$Fault" o.1) o.2) {rc_X19_bracket : Nat → mH → Option ((Nat ⊕ Nat) × mH)} (hrc_X19_bracket : ∀ {l : Launch} {r0 : Nat} (h : mH) {o : (Nat ⊕ Nat) × mH}, rc_X19_bracket r0 h = some o → XT G l (mi_X19_bracket d) [.ref r0] h (xoA "StrangerMarket$Fault" o.1) o.2) {rc_X19_or : Nat → mH → Option ((Nat ⊕ Nat) × mH)} (hrc_X19_or : ∀ {l : Launch} {r0 : Nat} (h : mH) {o : (Nat ⊕ Nat) × mH}, rc_X19_or r0 h = some o → XT G l (mi_X19_or d) [.ref r0] h (xoA "StrangerMarket$Fault" o.1) o.2) {rc_X19_says : Nat → mH → Option ((Nat ⊕ Nat) × mH)} (hrc_X19_says : ∀ {l : Launch} {r0 : Nat} (h : mH) {o : (Nat ⊕ Nat) × mH}, rc_X19_says r0 h = some o → XT G l (mi_X19_says d) [.ref r0] h (xoA "StrangerMarket$Fault" o.1) o.2) {l : Launch} {r0 : Nat} (h : mH) {o : (Nat ⊕ Nat) × mH} (H : fb_X19_and rc_X19_and rc_X19_bracket rc_X19_or rc_X19_says r0 h = some o) : XT G l (mi_X19_and (d + 1)) [.ref r0] h (xoA "StrangerMarket$Fault" o.1) o.2 := by
  refine XT.of C0 (by first | decide | (dsimp only [mi_X19_and, mi_X19_bracket, mi_X19_or, mi_X19_says]; decide)) (Nat.le_of_ble_eq_true rfl) (fun C _ _ _ hE => ?_)
  show X G C (mi_X19_and (d + 1)) 0 [(0, .ref r0)] [] h
  unfold fb_X19_and at H
  refine x_aload_n 0 rfl dX19_and_0 ?_
  obtain ⟨c1, H⟩ := oit H
  rcases obT H with ⟨a1, h1, e1, rfl⟩ | ⟨v1, h1, e1, H⟩
  · exact x_goX (hrc_X19_says _ e1) (x_rV (M' := (mi_X19_says d)) (n := 0) (As := []) (hrc_X19_says _ e1) c1 rfl rfl (md_X19_says d) ⟨by show 13 + d + 1 ≤ 13 + (d + 1); omega, Nat.le_of_ble_eq_true rfl⟩ q1684 q1686 qs44 q157 q1687 rfl (Nat.le_of_ble_eq_true rfl) dX19_and_1) hE
  refine x_goR (r := (some (.ref v1))) (hrc_X19_says _ e1) (x_rV (M' := (mi_X19_says d)) (n := 0) (As := []) (hrc_X19_says _ e1) c1 rfl rfl (md_X19_says d) ⟨by show 13 + d + 1 ≤ 13 + (d + 1); omega, Nat.le_of_ble_eq_true rfl⟩ q1684 q1686 qs44 q157 q1687 rfl (Nat.le_of_ble_eq_true rfl) dX19_and_1) ?_
  refine x_astore_n [1, 0] dX19_and_4 (by first | decide | (dsimp only [mi_X19_and, mi_X19_bracket, mi_X19_or, mi_X19_says]; decide)) rfl ?_
  exact t_X19_and_L5 hrc_X19_and hrc_X19_bracket hrc_X19_or hrc_X19_says hE  xFu _ _ _ H
def f_X19_bracket_b29 (rc_X19_and : Nat → mH → Option ((Nat ⊕ Nat) × mH)) (rc_X19_bracket : Nat → mH → Option ((Nat ⊕ Nat) × mH)) (rc_X19_or : Nat → mH → Option ((Nat ⊕ Nat) × mH)) (rc_X19_says : Nat → mH → Option ((Nat ⊕ Nat) × mH)) (r0 : Nat) (r1 : Nat) (s0 : Nat) (s1 : Int32) (h : mH) : Option ((Nat ⊕ Nat) × mH) := if gC h s0 ∈ [7] then bT (f_X6_need s0 s1 (1 : Int32) h) fun v4 h4 => if gC h4 r0 ∈ [7] then bR (f_X6_go r0  h4) fun a5 g5 => some (.inl (r1), g5) else none else none
theorem t_X19_bracket_b29 {G : xG} {C : xC} {d : Nat} {rc_X19_and : Nat → mH → Option ((Nat ⊕ Nat) × mH)} (hrc_X19_and : ∀ {l : Launch} {r0 : Nat} (h : mH) {o : (Nat ⊕ Nat) × mH}, rc_X19_and r0 h = some o → XT G l (mi_X19_and d) [.ref r0] h (xoA "StrangerMarket$Fault" o.1) o.2) {rc_X19_bracket : Nat → mH → Option ((Nat ⊕ Nat) × mH)} (hrc_X19_bracket : ∀ {l : Launch} {r0 : Nat} (h : mH) {o : (Nat ⊕ Nat) × mH}, rc_X19_bracket r0 h = some o → XT G l (mi_X19_bracket d) [.ref r0] h (xoA "StrangerMarket$Fault" o.1) o.2) {rc_X19_or : Nat → mH → Option ((Nat ⊕ Nat) × mH)} (hrc_X19_or : ∀ {l : Launch} {r0 : Nat} (h : mH) {o : (Nat ⊕ Nat) × mH}, rc_X19_or r0 h = some o → XT G l (mi_X19_or d) [.ref r0] h (xoA "StrangerMarket$Fault" o.1) o.2) {rc_X19_says : Nat → mH → Option ((Nat ⊕ Nat) × mH)} (hrc_X19_says : ∀ {l : Launch} {r0 : Nat} (h : mH) {o : (Nat ⊕ Nat) × mH}, rc_X19_says r0 h = some o → XT G l (mi_X19_says d) [.ref r0] h (xoA "StrangerMarket$Fault" o.1) o.2) {o : (Nat ⊕ Nat) × mH} (hE : xEndT G C [] (xoA "StrangerMarket$Fault" o.1) o.2) (r0 : Nat) (r1 : Nat) (s0 : Nat) (s1 : Int32) (h : mH) (H : f_X19_bracket_b29 rc_X19_and rc_X19_bracket rc_X19_or rc_X19_says r0 r1 s0 s1 h = some o) : X G C (mi_X19_bracket (d + 1)) 29 [(0, .ref r0), (1, .ref r1)] [.int s1, .ref s0] h := by
  unfold f_X19_bracket_b29 at H
  refine x_iconst (1 : Int32) dX19_bracket_29 ic_1 ?_
  obtain ⟨c4, H⟩ := oit H
  rcases obT H with ⟨a4, h4, e4, rfl⟩ | ⟨v4, h4, e4, H⟩
  · exact x_goX (t_X6_need C _ e4) (x_rU (M' := mi_X6_need) (n := 2) (As := [.int s1, .int (1 : Int32)]) (t_X6_need C _ e4) c4 up_X19_27_7 (by first | decide +kernel | (dsimp only [mi_X19_and, mi_X19_bracket, mi_X19_or, mi_X19_says]; decide +kernel)) ⟨by show 4 + 1 ≤ 13 + (d + 1); omega, Nat.le_of_ble_eq_true rfl⟩ q749 rfl (Nat.le_of_ble_eq_true rfl) dX19_bracket_30) hE
  refine x_goR (r := none) (t_X6_need C _ e4) (x_rU (M' := mi_X6_need) (n := 2) (As := [.int s1, .int (1 : Int32)]) (t_X6_need C _ e4) c4 up_X19_27_7 (by first | decide +kernel | (dsimp only [mi_X19_and, mi_X19_bracket, mi_X19_or, mi_X19_says]; decide +kernel)) ⟨by show 4 + 1 ≤ 13 + (d + 1); omega, Nat.le_of_ble_eq_true rfl⟩ q749 rfl (Nat.le_of_ble_eq_true rfl) dX19_bracket_30) ?_
  refine x_aload_n 0 rfl dX19_bracket_33 ?_
  obtain ⟨c5, H⟩ := oit H
  obtain ⟨a5, g5, e5, H⟩ := obR H
  refine x_callU (M' := mi_X6_go) (n := 0) (As := []) (t_X6_go C _ e5) c5 up_X19_15_7 (by first | decide +kernel | (dsimp only [mi_X19_and, mi_X19_bracket, mi_X19_or, mi_X19_says]; decide +kernel)) ⟨by show 9 + 1 ≤ 13 + (d + 1); omega, Nat.le_of_ble_eq_true rfl⟩ q522 rfl (Nat.le_of_ble_eq_true rfl) dX19_bracket_34 ?_
  refine x_aload_n 1 rfl dX19_bracket_37 ?_
  obtain rfl := Option.some.inj H
  exact x_aretT hE rfl (by first | exact Or.inl ⟨_, rfl⟩ | exact Or.inr ⟨_, rfl⟩) dX19_bracket_38
def f_X19_bracket_b28 (rc_X19_and : Nat → mH → Option ((Nat ⊕ Nat) × mH)) (rc_X19_bracket : Nat → mH → Option ((Nat ⊕ Nat) × mH)) (rc_X19_or : Nat → mH → Option ((Nat ⊕ Nat) × mH)) (rc_X19_says : Nat → mH → Option ((Nat ⊕ Nat) × mH)) (r0 : Nat) (r1 : Nat) (s0 : Nat) (h : mH) : Option ((Nat ⊕ Nat) × mH) := f_X19_bracket_b29 rc_X19_and rc_X19_bracket rc_X19_or rc_X19_says r0 r1 s0 (0 : Int32) h
theorem t_X19_bracket_b28 {G : xG} {C : xC} {d : Nat} {rc_X19_and : Nat → mH → Option ((Nat ⊕ Nat) × mH)} (hrc_X19_and : ∀ {l : Launch} {r0 : Nat} (h : mH) {o : (Nat ⊕ Nat) × mH}, rc_X19_and r0 h = some o → XT G l (mi_X19_and d) [.ref r0] h (xoA "StrangerMarket$Fault" o.1) o.2) {rc_X19_bracket : Nat → mH → Option ((Nat ⊕ Nat) × mH)} (hrc_X19_bracket : ∀ {l : Launch} {r0 : Nat} (h : mH) {o : (Nat ⊕ Nat) × mH}, rc_X19_bracket r0 h = some o → XT G l (mi_X19_bracket d) [.ref r0] h (xoA "StrangerMarket$Fault" o.1) o.2) {rc_X19_or : Nat → mH → Option ((Nat ⊕ Nat) × mH)} (hrc_X19_or : ∀ {l : Launch} {r0 : Nat} (h : mH) {o : (Nat ⊕ Nat) × mH}, rc_X19_or r0 h = some o → XT G l (mi_X19_or d) [.ref r0] h (xoA "StrangerMarket$Fault" o.1) o.2) {rc_X19_says : Nat → mH → Option ((Nat ⊕ Nat) × mH)} (hrc_X19_says : ∀ {l : Launch} {r0 : Nat} (h : mH) {o : (Nat ⊕ Nat) × mH}, rc_X19_says r0 h = some o → XT G l (mi_X19_says d) [.ref r0] h (xoA "StrangerMarket$Fault" o.1) o.2) {o : (Nat ⊕ Nat) × mH} (hE : xEndT G C [] (xoA "StrangerMarket$Fault" o.1) o.2) (r0 : Nat) (r1 : Nat) (s0 : Nat) (h : mH) (H : f_X19_bracket_b28 rc_X19_and rc_X19_bracket rc_X19_or rc_X19_says r0 r1 s0 h = some o) : X G C (mi_X19_bracket (d + 1)) 28 [(0, .ref r0), (1, .ref r1)] [.ref s0] h := by
  unfold f_X19_bracket_b28 at H
  refine x_iconst (0 : Int32) dX19_bracket_28 ic_0 ?_
  exact t_X19_bracket_b29 hrc_X19_and hrc_X19_bracket hrc_X19_or hrc_X19_says hE _ _ _ _ _ H
def fb_X19_bracket (rc_X19_and : Nat → mH → Option ((Nat ⊕ Nat) × mH)) (rc_X19_bracket : Nat → mH → Option ((Nat ⊕ Nat) × mH)) (rc_X19_or : Nat → mH → Option ((Nat ⊕ Nat) × mH)) (rc_X19_says : Nat → mH → Option ((Nat ⊕ Nat) × mH)) (r0 : Nat) (h : mH) : Option ((Nat ⊕ Nat) × mH) := if gC h r0 = 7 then bT (rc_X19_or r0  h) fun v1 h1 => (gFi [7] 4 h1 r0).bind fun v2 => if v2 = (6 : Int32) then (gFi [7] 7 h1 r0).bind fun v6 => if v6 = (41 : Int32) then f_X19_bracket_b29 rc_X19_and rc_X19_bracket rc_X19_or rc_X19_says r0 v1 r0 (1 : Int32) h1 else f_X19_bracket_b28 rc_X19_and rc_X19_bracket rc_X19_or rc_X19_says r0 v1 r0 h1 else f_X19_bracket_b28 rc_X19_and rc_X19_bracket rc_X19_or rc_X19_says r0 v1 r0 h1 else none
theorem tb_X19_bracket {G : xG} (C0 : xC) {d : Nat} {rc_X19_and : Nat → mH → Option ((Nat ⊕ Nat) × mH)} (hrc_X19_and : ∀ {l : Launch} {r0 : Nat} (h : mH) {o : (Nat ⊕ Nat) × mH}, rc_X19_and r0 h = some o → XT G l (mi_X19_and d) [.ref r0] h (xoA "StrangerMarket$Fault" o.1) o.2) {rc_X19_bracket : Nat → mH → Option ((Nat ⊕ Nat) × mH)} (hrc_X19_bracket : ∀ {l : Launch} {r0 : Nat} (h : mH) {o : (Nat ⊕ Nat) × mH}, rc_X19_bracket r0 h = some o → XT G l (mi_X19_bracket d) [.ref r0] h (xoA "StrangerMarket$Fault" o.1) o.2) {rc_X19_or : Nat → mH → Option ((Nat ⊕ Nat) × mH)} (hrc_X19_or : ∀ {l : Launch} {r0 : Nat} (h : mH) {o : (Nat ⊕ Nat) × mH}, rc_X19_or r0 h = some o → XT G l (mi_X19_or d) [.ref r0] h (xoA "StrangerMarket$Fault" o.1) o.2) {rc_X19_says : Nat → mH → Option ((Nat ⊕ Nat) × mH)} (hrc_X19_says : ∀ {l : Launch} {r0 : Nat} (h : mH) {o : (Nat ⊕ Nat) × mH}, rc_X19_says r0 h = some o → XT G l (mi_X19_says d) [.ref r0] h (xoA "StrangerMarket$Fault" o.1) o.2) {l : Launch} {r0 : Nat} (h : mH) {o : (Nat ⊕ Nat) × mH} (H : fb_X19_bracket rc_X19_and rc_X19_bracket rc_X19_or rc_X19_says r0 h = some o) : XT G l (mi_X19_bracket (d + 1)) [.ref r0] h (xoA "StrangerMarket$Fault" o.1) o.2 := by
  refine XT.of C0 (by first | decide | (dsimp only [mi_X19_and, mi_X19_bracket, mi_X19_or, mi_X19_says]; decide)) (Nat.le_of_ble_eq_true rfl) (fun C _ _ _ hE => ?_)
  show X G C (mi_X19_bracket (d + 1)) 0 [(0, .ref r0)] [] h
  unfold fb_X19_bracket at H
  refine x_aload_n 0 rfl dX19_bracket_0 ?_
  obtain ⟨c1, H⟩ := oit H
  rcases obT H with ⟨a1, h1, e1, rfl⟩ | ⟨v1, h1, e1, H⟩
  · exact x_goX (hrc_X19_or _ e1) (x_rV (M' := (mi_X19_or d)) (n := 0) (As := []) (hrc_X19_or _ e1) c1 rfl rfl (md_X19_or d) ⟨by show 13 + d + 1 ≤ 13 + (d + 1); omega, Nat.le_of_ble_eq_true rfl⟩ q1676 q1678 qs42 q157 q1679 rfl (Nat.le_of_ble_eq_true rfl) dX19_bracket_1) hE
  refine x_goR (r := (some (.ref v1))) (hrc_X19_or _ e1) (x_rV (M' := (mi_X19_or d)) (n := 0) (As := []) (hrc_X19_or _ e1) c1 rfl rfl (md_X19_or d) ⟨by show 13 + d + 1 ≤ 13 + (d + 1); omega, Nat.le_of_ble_eq_true rfl⟩ q1676 q1678 qs42 q157 q1679 rfl (Nat.le_of_ble_eq_true rfl) dX19_bracket_1) ?_
  refine x_astore_n [1, 0] dX19_bracket_4 (by first | decide | (dsimp only [mi_X19_and, mi_X19_bracket, mi_X19_or, mi_X19_says]; decide)) rfl ?_
  refine x_aload_n 0 rfl dX19_bracket_5 ?_
  refine x_aload_n 0 rfl dX19_bracket_6 ?_
  obtain ⟨v2, e2, H⟩ := ob H
  refine x_getf fg_X19_23 (gFi_spec e2) dX19_bracket_7 ?_
  refine x_bipush (6 : Int32) dX19_bracket_10 bi_6 ?_
  refine x_icmp_ne 28 dX19_bracket_12 (by first | decide | (dsimp only [mi_X19_and, mi_X19_bracket, mi_X19_or, mi_X19_says]; decide)) (fun c3 => ?_) (fun c3 => ?_)
  · rw [if_neg c3] at H
    exact t_X19_bracket_b28 hrc_X19_and hrc_X19_bracket hrc_X19_or hrc_X19_says hE _ _ _ _ H
  · rw [if_pos c3] at H
    refine x_aload_n 0 rfl dX19_bracket_15 ?_
    obtain ⟨v6, e6, H⟩ := ob H
    refine x_getf fg_X19_64 (gFi_spec e6) dX19_bracket_16 ?_
    refine x_bipush (41 : Int32) dX19_bracket_19 bi_41 ?_
    refine x_icmp_ne 28 dX19_bracket_21 (by first | decide | (dsimp only [mi_X19_and, mi_X19_bracket, mi_X19_or, mi_X19_says]; decide)) (fun c7 => ?_) (fun c7 => ?_)
    · rw [if_neg c7] at H
      exact t_X19_bracket_b28 hrc_X19_and hrc_X19_bracket hrc_X19_or hrc_X19_says hE _ _ _ _ H
    · rw [if_pos c7] at H
      refine x_iconst (1 : Int32) dX19_bracket_24 ic_1 ?_
      refine x_goto (tgt := 29) dX19_bracket_25 (by first | decide | (dsimp only [mi_X19_and, mi_X19_bracket, mi_X19_or, mi_X19_says]; decide)) ?_
      exact t_X19_bracket_b29 hrc_X19_and hrc_X19_bracket hrc_X19_or hrc_X19_says hE _ _ _ _ _ H
def f_X19_or_L5 (rc_X19_and : Nat → mH → Option ((Nat ⊕ Nat) × mH)) (rc_X19_bracket : Nat → mH → Option ((Nat ⊕ Nat) × mH)) (rc_X19_or : Nat → mH → Option ((Nat ⊕ Nat) × mH)) (rc_X19_says : Nat → mH → Option ((Nat ⊕ Nat) × mH)) : Nat → Nat → Nat → mH → Option ((Nat ⊕ Nat) × mH)
  | 0, _, _, _ => none
  | n + 1, r0, r1, h => if gC h r0 ∈ [7] then bR (f_X6_is r0 42 h) fun a2 g2 => if a2 = 0 then some (.inl (r1), g2) else if gC g2 r0 ∈ [7] then bR (f_X6_go r0  g2) fun a4 g4 => if gC (xnw g4 (.inr (20, [.ref 0, .ref 0, .int 0])) 3) r0 = 7 then bT (rc_X19_and r0  (xnw g4 (.inr (20, [.ref 0, .ref 0, .int 0])) 3)) fun v5 h5 => if 6 ≤ g4.2.1 then bR (f_X25_init g4.2.1 r1 v5 (0 : Int32) h5) fun a6 g6 => (f_X19_or_L5 rc_X19_and rc_X19_bracket rc_X19_or rc_X19_says n) r0 g4.2.1 g6 else none else none else none else none
theorem t_X19_or_L5 {G : xG} {C : xC} {d : Nat} {rc_X19_and : Nat → mH → Option ((Nat ⊕ Nat) × mH)} (hrc_X19_and : ∀ {l : Launch} {r0 : Nat} (h : mH) {o : (Nat ⊕ Nat) × mH}, rc_X19_and r0 h = some o → XT G l (mi_X19_and d) [.ref r0] h (xoA "StrangerMarket$Fault" o.1) o.2) {rc_X19_bracket : Nat → mH → Option ((Nat ⊕ Nat) × mH)} (hrc_X19_bracket : ∀ {l : Launch} {r0 : Nat} (h : mH) {o : (Nat ⊕ Nat) × mH}, rc_X19_bracket r0 h = some o → XT G l (mi_X19_bracket d) [.ref r0] h (xoA "StrangerMarket$Fault" o.1) o.2) {rc_X19_or : Nat → mH → Option ((Nat ⊕ Nat) × mH)} (hrc_X19_or : ∀ {l : Launch} {r0 : Nat} (h : mH) {o : (Nat ⊕ Nat) × mH}, rc_X19_or r0 h = some o → XT G l (mi_X19_or d) [.ref r0] h (xoA "StrangerMarket$Fault" o.1) o.2) {rc_X19_says : Nat → mH → Option ((Nat ⊕ Nat) × mH)} (hrc_X19_says : ∀ {l : Launch} {r0 : Nat} (h : mH) {o : (Nat ⊕ Nat) × mH}, rc_X19_says r0 h = some o → XT G l (mi_X19_says d) [.ref r0] h (xoA "StrangerMarket$Fault" o.1) o.2) {o : (Nat ⊕ Nat) × mH} (hE : xEndT G C [] (xoA "StrangerMarket$Fault" o.1) o.2) : ∀ (n : Nat) (r0 : Nat) (r1 : Nat) (h : mH), f_X19_or_L5 rc_X19_and rc_X19_bracket rc_X19_or rc_X19_says n r0 r1 h = some o → X G C (mi_X19_or (d + 1)) 5 [(0, .ref r0), (1, .ref r1)] [] h := by
  intro n
  induction n with
  | zero => intro r0 r1 h H; exact nomatch (show (none : Option ((Nat ⊕ Nat) × mH)) = some o from H)
  | succ n ih =>
    intro r0 r1 h H
    rw [f_X19_or_L5] at H
    refine x_aload_n 0 rfl dX19_or_5 ?_
    refine x_ldcS (tx := "or") (a := 42) (List.mem_of_getElem? (i := 34) rfl) (by first | decide | (dsimp only [mi_X19_and, mi_X19_bracket, mi_X19_or, mi_X19_says]; decide)) (by first | decide | (dsimp only [mi_X19_and, mi_X19_bracket, mi_X19_or, mi_X19_says]; decide)) dX19_or_6 ?_
    obtain ⟨c2, H⟩ := oit H
    obtain ⟨a2, g2, e2, H⟩ := obR H
    refine x_callU (M' := mi_X6_is) (n := 1) (As := [.ref 42]) (t_X6_is C _ e2) c2 up_X19_35_7 (by first | decide +kernel | (dsimp only [mi_X19_and, mi_X19_bracket, mi_X19_or, mi_X19_says]; decide +kernel)) ⟨by show 3 + 1 ≤ 13 + (d + 1); omega, Nat.le_of_ble_eq_true rfl⟩ q726 rfl (Nat.le_of_ble_eq_true rfl) dX19_or_8 ?_
    refine x_if_eq 35 dX19_or_11 (by first | decide | (dsimp only [mi_X19_and, mi_X19_bracket, mi_X19_or, mi_X19_says]; decide)) (fun c3 => ?_) (fun c3 => ?_)
    · rw [if_pos c3] at H
      refine x_aload_n 1 rfl dX19_or_35 ?_
      obtain rfl := Option.some.inj H
      exact x_aretT hE rfl (by first | exact Or.inl ⟨_, rfl⟩ | exact Or.inr ⟨_, rfl⟩) dX19_or_36
    · rw [if_neg c3] at H
      refine x_aload_n 0 rfl dX19_or_14 ?_
      obtain ⟨c4, H⟩ := oit H
      obtain ⟨a4, g4, e4, H⟩ := obR H
      refine x_callU (M' := mi_X6_go) (n := 0) (As := []) (t_X6_go C _ e4) c4 up_X19_15_7 (by first | decide +kernel | (dsimp only [mi_X19_and, mi_X19_bracket, mi_X19_or, mi_X19_says]; decide +kernel)) ⟨by show 9 + 1 ≤ 13 + (d + 1); omega, Nat.le_of_ble_eq_true rfl⟩ q522 rfl (Nat.le_of_ble_eq_true rfl) dX19_or_15 ?_
      refine x_new (fs := [.ref 0, .ref 0, .int 0]) ci_20 q1780 q1781 q163 (nf_X25 G) rfl dX19_or_18 ?_
      refine x_dup dX19_or_21 rfl ?_
      refine x_aload_n 1 rfl dX19_or_22 ?_
      refine x_aload_n 0 rfl dX19_or_23 ?_
      obtain ⟨c5, H⟩ := oit H
      rcases obT H with ⟨a5, h5, e5, rfl⟩ | ⟨v5, h5, e5, H⟩
      · exact x_goX (hrc_X19_and _ e5) (x_rV (M' := (mi_X19_and d)) (n := 0) (As := []) (hrc_X19_and _ e5) c5 rfl rfl (md_X19_and d) ⟨by show 13 + d + 1 ≤ 13 + (d + 1); omega, Nat.le_of_ble_eq_true rfl⟩ q1680 q1682 qs43 q157 q1683 rfl (Nat.le_of_ble_eq_true rfl) dX19_or_24) hE
      refine x_goR (r := (some (.ref v5))) (hrc_X19_and _ e5) (x_rV (M' := (mi_X19_and d)) (n := 0) (As := []) (hrc_X19_and _ e5) c5 rfl rfl (md_X19_and d) ⟨by show 13 + d + 1 ≤ 13 + (d + 1); omega, Nat.le_of_ble_eq_true rfl⟩ q1680 q1682 qs43 q157 q1683 rfl (Nat.le_of_ble_eq_true rfl) dX19_or_24) ?_
      refine x_iconst (0 : Int32) dX19_or_27 ic_0 ?_
      obtain ⟨c6, H⟩ := oit H
      obtain ⟨a6, g6, e6, H⟩ := obR H
      refine x_callI (M' := mi_X25_init) (n := 3) (As := [.ref r1, .ref v5, .int (0 : Int32)]) (t_X25_init C _ e6) c6 md_X25_init ⟨by show 2 + 1 ≤ 13 + (d + 1); omega, Nat.le_of_ble_eq_true rfl⟩ rfl rfl q1782 q1783 q163 q1784 rfl (Nat.le_of_ble_eq_true rfl) dX19_or_28 ?_
      refine x_astore_n [1, 0] dX19_or_31 (by first | decide | (dsimp only [mi_X19_and, mi_X19_bracket, mi_X19_or, mi_X19_says]; decide)) rfl ?_
      refine x_goto (tgt := 5) dX19_or_32 (by first | decide | (dsimp only [mi_X19_and, mi_X19_bracket, mi_X19_or, mi_X19_says]; decide)) ?_
      exact ih _ _ _ H
def fb_X19_or (rc_X19_and : Nat → mH → Option ((Nat ⊕ Nat) × mH)) (rc_X19_bracket : Nat → mH → Option ((Nat ⊕ Nat) × mH)) (rc_X19_or : Nat → mH → Option ((Nat ⊕ Nat) × mH)) (rc_X19_says : Nat → mH → Option ((Nat ⊕ Nat) × mH)) (r0 : Nat) (h : mH) : Option ((Nat ⊕ Nat) × mH) := if gC h r0 = 7 then bT (rc_X19_and r0  h) fun v1 h1 => f_X19_or_L5 rc_X19_and rc_X19_bracket rc_X19_or rc_X19_says  xFu r0 v1 h1 else none
theorem tb_X19_or {G : xG} (C0 : xC) {d : Nat} {rc_X19_and : Nat → mH → Option ((Nat ⊕ Nat) × mH)} (hrc_X19_and : ∀ {l : Launch} {r0 : Nat} (h : mH) {o : (Nat ⊕ Nat) × mH}, rc_X19_and r0 h = some o → XT G l (mi_X19_and d) [.ref r0] h (xoA "StrangerMarket$Fault" o.1) o.2) {rc_X19_bracket : Nat → mH → Option ((Nat ⊕ Nat) × mH)} (hrc_X19_bracket : ∀ {l : Launch} {r0 : Nat} (h : mH) {o : (Nat ⊕ Nat) × mH}, rc_X19_bracket r0 h = some o → XT G l (mi_X19_bracket d) [.ref r0] h (xoA "StrangerMarket$Fault" o.1) o.2) {rc_X19_or : Nat → mH → Option ((Nat ⊕ Nat) × mH)} (hrc_X19_or : ∀ {l : Launch} {r0 : Nat} (h : mH) {o : (Nat ⊕ Nat) × mH}, rc_X19_or r0 h = some o → XT G l (mi_X19_or d) [.ref r0] h (xoA "StrangerMarket$Fault" o.1) o.2) {rc_X19_says : Nat → mH → Option ((Nat ⊕ Nat) × mH)} (hrc_X19_says : ∀ {l : Launch} {r0 : Nat} (h : mH) {o : (Nat ⊕ Nat) × mH}, rc_X19_says r0 h = some o → XT G l (mi_X19_says d) [.ref r0] h (xoA "StrangerMarket$Fault" o.1) o.2) {l : Launch} {r0 : Nat} (h : mH) {o : (Nat ⊕ Nat) × mH} (H : fb_X19_or rc_X19_and rc_X19_bracket rc_X19_or rc_X19_says r0 h = some o) : XT G l (mi_X19_or (d + 1)) [.ref r0] h (xoA "StrangerMarket$Fault" o.1) o.2 := by
  refine XT.of C0 (by first | decide | (dsimp only [mi_X19_and, mi_X19_bracket, mi_X19_or, mi_X19_says]; decide)) (Nat.le_of_ble_eq_true rfl) (fun C _ _ _ hE => ?_)
  show X G C (mi_X19_or (d + 1)) 0 [(0, .ref r0)] [] h
  unfold fb_X19_or at H
  refine x_aload_n 0 rfl dX19_or_0 ?_
  obtain ⟨c1, H⟩ := oit H
  rcases obT H with ⟨a1, h1, e1, rfl⟩ | ⟨v1, h1, e1, H⟩
  · exact x_goX (hrc_X19_and _ e1) (x_rV (M' := (mi_X19_and d)) (n := 0) (As := []) (hrc_X19_and _ e1) c1 rfl rfl (md_X19_and d) ⟨by show 13 + d + 1 ≤ 13 + (d + 1); omega, Nat.le_of_ble_eq_true rfl⟩ q1680 q1682 qs43 q157 q1683 rfl (Nat.le_of_ble_eq_true rfl) dX19_or_1) hE
  refine x_goR (r := (some (.ref v1))) (hrc_X19_and _ e1) (x_rV (M' := (mi_X19_and d)) (n := 0) (As := []) (hrc_X19_and _ e1) c1 rfl rfl (md_X19_and d) ⟨by show 13 + d + 1 ≤ 13 + (d + 1); omega, Nat.le_of_ble_eq_true rfl⟩ q1680 q1682 qs43 q157 q1683 rfl (Nat.le_of_ble_eq_true rfl) dX19_or_1) ?_
  refine x_astore_n [1, 0] dX19_or_4 (by first | decide | (dsimp only [mi_X19_and, mi_X19_bracket, mi_X19_or, mi_X19_says]; decide)) rfl ?_
  exact t_X19_or_L5 hrc_X19_and hrc_X19_bracket hrc_X19_or hrc_X19_says hE  xFu _ _ _ H
def f_X19_says_b255 (rc_X19_and : Nat → mH → Option ((Nat ⊕ Nat) × mH)) (rc_X19_bracket : Nat → mH → Option ((Nat ⊕ Nat) × mH)) (rc_X19_or : Nat → mH → Option ((Nat ⊕ Nat) × mH)) (rc_X19_says : Nat → mH → Option ((Nat ⊕ Nat) × mH)) (r0 : Nat) (s0 : Nat) (h : mH) : Option ((Nat ⊕ Nat) × mH) := (gFi [7] 11 h r0).bind fun v23 => (pF [7] 11 (.int (v23 - (1 : Int32))) h r0).bind fun h24 => some (.inl (s0), h24)
theorem t_X19_says_b255 {G : xG} {C : xC} {d : Nat} {rc_X19_and : Nat → mH → Option ((Nat ⊕ Nat) × mH)} (hrc_X19_and : ∀ {l : Launch} {r0 : Nat} (h : mH) {o : (Nat ⊕ Nat) × mH}, rc_X19_and r0 h = some o → XT G l (mi_X19_and d) [.ref r0] h (xoA "StrangerMarket$Fault" o.1) o.2) {rc_X19_bracket : Nat → mH → Option ((Nat ⊕ Nat) × mH)} (hrc_X19_bracket : ∀ {l : Launch} {r0 : Nat} (h : mH) {o : (Nat ⊕ Nat) × mH}, rc_X19_bracket r0 h = some o → XT G l (mi_X19_bracket d) [.ref r0] h (xoA "StrangerMarket$Fault" o.1) o.2) {rc_X19_or : Nat → mH → Option ((Nat ⊕ Nat) × mH)} (hrc_X19_or : ∀ {l : Launch} {r0 : Nat} (h : mH) {o : (Nat ⊕ Nat) × mH}, rc_X19_or r0 h = some o → XT G l (mi_X19_or d) [.ref r0] h (xoA "StrangerMarket$Fault" o.1) o.2) {rc_X19_says : Nat → mH → Option ((Nat ⊕ Nat) × mH)} (hrc_X19_says : ∀ {l : Launch} {r0 : Nat} (h : mH) {o : (Nat ⊕ Nat) × mH}, rc_X19_says r0 h = some o → XT G l (mi_X19_says d) [.ref r0] h (xoA "StrangerMarket$Fault" o.1) o.2) {o : (Nat ⊕ Nat) × mH} (hE : xEndT G C [] (xoA "StrangerMarket$Fault" o.1) o.2) (r0 : Nat) (s0 : Nat) (h : mH) (H : f_X19_says_b255 rc_X19_and rc_X19_bracket rc_X19_or rc_X19_says r0 s0 h = some o) : X G C (mi_X19_says (d + 1)) 255 [(0, .ref r0)] [.ref s0] h := by
  unfold f_X19_says_b255 at H
  refine x_astore [1, 0] dX19_says_255 (by first | decide | (dsimp only [mi_X19_and, mi_X19_bracket, mi_X19_or, mi_X19_says]; decide)) rfl ?_
  refine x_aload_n 0 rfl dX19_says_257 ?_
  refine x_dup dX19_says_258 rfl ?_
  obtain ⟨v23, e23, H⟩ := ob H
  refine x_getf fg_X19_83 (gFi_spec e23) dX19_says_259 ?_
  refine x_iconst (1 : Int32) dX19_says_262 ic_1 ?_
  refine x_isub dX19_says_263 ?_
  obtain ⟨h24, e24, H⟩ := ob H
  refine x_putf (fp_X19_83 _) rfl rfl e24 dX19_says_264 ?_
  refine x_aload 1 rfl dX19_says_267 ?_
  obtain rfl := Option.some.inj H
  exact x_aretT hE rfl (by first | exact Or.inl ⟨_, rfl⟩ | exact Or.inr ⟨_, rfl⟩) dX19_says_269
def f_X19_says_b225 (rc_X19_and : Nat → mH → Option ((Nat ⊕ Nat) × mH)) (rc_X19_bracket : Nat → mH → Option ((Nat ⊕ Nat) × mH)) (rc_X19_or : Nat → mH → Option ((Nat ⊕ Nat) × mH)) (rc_X19_says : Nat → mH → Option ((Nat ⊕ Nat) × mH)) (r0 : Nat) (s0 : Nat) (s1 : Nat) (s2 : Int32) (s3 : Int32) (h : mH) : Option ((Nat ⊕ Nat) × mH) := if 6 ≤ s1 then bR (f_X22_init s1 s2 s3 h) fun a30 g30 => f_X19_says_b255 rc_X19_and rc_X19_bracket rc_X19_or rc_X19_says r0 s0 g30 else none
theorem t_X19_says_b225 {G : xG} {C : xC} {d : Nat} {rc_X19_and : Nat → mH → Option ((Nat ⊕ Nat) × mH)} (hrc_X19_and : ∀ {l : Launch} {r0 : Nat} (h : mH) {o : (Nat ⊕ Nat) × mH}, rc_X19_and r0 h = some o → XT G l (mi_X19_and d) [.ref r0] h (xoA "StrangerMarket$Fault" o.1) o.2) {rc_X19_bracket : Nat → mH → Option ((Nat ⊕ Nat) × mH)} (hrc_X19_bracket : ∀ {l : Launch} {r0 : Nat} (h : mH) {o : (Nat ⊕ Nat) × mH}, rc_X19_bracket r0 h = some o → XT G l (mi_X19_bracket d) [.ref r0] h (xoA "StrangerMarket$Fault" o.1) o.2) {rc_X19_or : Nat → mH → Option ((Nat ⊕ Nat) × mH)} (hrc_X19_or : ∀ {l : Launch} {r0 : Nat} (h : mH) {o : (Nat ⊕ Nat) × mH}, rc_X19_or r0 h = some o → XT G l (mi_X19_or d) [.ref r0] h (xoA "StrangerMarket$Fault" o.1) o.2) {rc_X19_says : Nat → mH → Option ((Nat ⊕ Nat) × mH)} (hrc_X19_says : ∀ {l : Launch} {r0 : Nat} (h : mH) {o : (Nat ⊕ Nat) × mH}, rc_X19_says r0 h = some o → XT G l (mi_X19_says d) [.ref r0] h (xoA "StrangerMarket$Fault" o.1) o.2) {o : (Nat ⊕ Nat) × mH} (hE : xEndT G C [] (xoA "StrangerMarket$Fault" o.1) o.2) (r0 : Nat) (s0 : Nat) (s1 : Nat) (s2 : Int32) (s3 : Int32) (h : mH) (H : f_X19_says_b225 rc_X19_and rc_X19_bracket rc_X19_or rc_X19_says r0 s0 s1 s2 s3 h = some o) : X G C (mi_X19_says (d + 1)) 225 [(0, .ref r0)] [.int s3, .int s2, .ref s1, .ref s0] h := by
  unfold f_X19_says_b225 at H
  obtain ⟨c30, H⟩ := oit H
  obtain ⟨a30, g30, e30, H⟩ := obR H
  refine x_callI (M' := mi_X22_init) (n := 2) (As := [.int s2, .int s3]) (t_X22_init C _ e30) c30 md_X22_init ⟨by show 2 + 1 ≤ 13 + (d + 1); omega, Nat.le_of_ble_eq_true rfl⟩ rfl rfl q1735 q1736 q160 q1737 rfl (Nat.le_of_ble_eq_true rfl) dX19_says_225 ?_
  refine x_goto (tgt := 255) dX19_says_228 (by first | decide | (dsimp only [mi_X19_and, mi_X19_bracket, mi_X19_or, mi_X19_says]; decide)) ?_
  exact t_X19_says_b255 hrc_X19_and hrc_X19_bracket hrc_X19_or hrc_X19_says hE _ _ _ H
def f_X19_says_b129 (rc_X19_and : Nat → mH → Option ((Nat ⊕ Nat) × mH)) (rc_X19_bracket : Nat → mH → Option ((Nat ⊕ Nat) × mH)) (rc_X19_or : Nat → mH → Option ((Nat ⊕ Nat) × mH)) (rc_X19_says : Nat → mH → Option ((Nat ⊕ Nat) × mH)) (r0 : Nat) (x1 : Int32) (x2 : Int32) (x3 : Int32) (x4 : Int32) (x5 : Int32) (x6 : Int32) (s0 : Nat) (s1 : Int32) (h : mH) : Option ((Nat ⊕ Nat) × mH) := if gC h s0 ∈ [7] then bT (f_X6_need s0 s1 (4 : Int32) h) fun v12 h12 => (gFi [7] 10 h12 r0).bind fun v13 => (pF [7] 10 (.int (v13 + (1 : Int32))) h12 r0).bind fun h14 => (gFi [7] 11 h14 r0).bind fun v15 => (pF [7] 11 (.int (v15 + (1 : Int32))) h14 r0).bind fun h16 => if gC h16 r0 ∈ [7] then bR (f_X6_go r0  h16) fun a17 g17 => if x1 = 0 then if x2 = 0 then if x4 = 0 then if x5 = (-1 : Int32) then if gC g17 r0 = 7 then bT (f_X19_than r0 x6 g17) fun v22 h22 => f_X19_says_b255 rc_X19_and rc_X19_bracket rc_X19_or rc_X19_says r0 v22 h22 else none else if 6 ≤ g17.2.1 then bR (f_X23_init g17.2.1 x5 (xnw g17 (.inr (18, [.int 0])) 1)) fun a25 g25 => f_X19_says_b255 rc_X19_and rc_X19_bracket rc_X19_or rc_X19_says r0 g17.2.1 g25 else none else if x3 = 0 then (gFr [7] 9 (xnw g17 (.inr (17, [.int 0, .int 0])) 2) r0).bind fun v27 => (gFr [1] 5 (xnw g17 (.inr (17, [.int 0, .int 0])) 2) v27).bind fun v28 => if gC (xnw g17 (.inr (17, [.int 0, .int 0])) 2) r0 ∈ [7] then bT (f_X6_one r0 v28 (xnw g17 (.inr (17, [.int 0, .int 0])) 2)) fun v29 h29 => f_X19_says_b225 rc_X19_and rc_X19_bracket rc_X19_or rc_X19_says r0 g17.2.1 g17.2.1 x3 v29 h29 else none else (gFr [7] 9 (xnw g17 (.inr (17, [.int 0, .int 0])) 2) r0).bind fun v31 => (gFr [1] 4 (xnw g17 (.inr (17, [.int 0, .int 0])) 2) v31).bind fun v32 => if gC (xnw g17 (.inr (17, [.int 0, .int 0])) 2) r0 ∈ [7] then bT (f_X6_one r0 v32 (xnw g17 (.inr (17, [.int 0, .int 0])) 2)) fun v33 h33 => f_X19_says_b225 rc_X19_and rc_X19_bracket rc_X19_or rc_X19_says r0 g17.2.1 g17.2.1 x3 v33 h33 else none else if gC (xnw g17 (.inr (16, [.ref 0])) 1) r0 = 7 then bT (rc_X19_says r0  (xnw g17 (.inr (16, [.ref 0])) 1)) fun v34 h34 => if 6 ≤ g17.2.1 then bR (f_X21_init g17.2.1 v34 h34) fun a35 g35 => f_X19_says_b255 rc_X19_and rc_X19_bracket rc_X19_or rc_X19_says r0 g17.2.1 g35 else none else none else if gC g17 r0 = 7 then bT (rc_X19_bracket r0  g17) fun v36 h36 => f_X19_says_b255 rc_X19_and rc_X19_bracket rc_X19_or rc_X19_says r0 v36 h36 else none else none else none
theorem t_X19_says_b129 {G : xG} {C : xC} {d : Nat} {rc_X19_and : Nat → mH → Option ((Nat ⊕ Nat) × mH)} (hrc_X19_and : ∀ {l : Launch} {r0 : Nat} (h : mH) {o : (Nat ⊕ Nat) × mH}, rc_X19_and r0 h = some o → XT G l (mi_X19_and d) [.ref r0] h (xoA "StrangerMarket$Fault" o.1) o.2) {rc_X19_bracket : Nat → mH → Option ((Nat ⊕ Nat) × mH)} (hrc_X19_bracket : ∀ {l : Launch} {r0 : Nat} (h : mH) {o : (Nat ⊕ Nat) × mH}, rc_X19_bracket r0 h = some o → XT G l (mi_X19_bracket d) [.ref r0] h (xoA "StrangerMarket$Fault" o.1) o.2) {rc_X19_or : Nat → mH → Option ((Nat ⊕ Nat) × mH)} (hrc_X19_or : ∀ {l : Launch} {r0 : Nat} (h : mH) {o : (Nat ⊕ Nat) × mH}, rc_X19_or r0 h = some o → XT G l (mi_X19_or d) [.ref r0] h (xoA "StrangerMarket$Fault" o.1) o.2) {rc_X19_says : Nat → mH → Option ((Nat ⊕ Nat) × mH)} (hrc_X19_says : ∀ {l : Launch} {r0 : Nat} (h : mH) {o : (Nat ⊕ Nat) × mH}, rc_X19_says r0 h = some o → XT G l (mi_X19_says d) [.ref r0] h (xoA "StrangerMarket$Fault" o.1) o.2) {o : (Nat ⊕ Nat) × mH} (hE : xEndT G C [] (xoA "StrangerMarket$Fault" o.1) o.2) (r0 : Nat) (x1 : Int32) (x2 : Int32) (x3 : Int32) (x4 : Int32) (x5 : Int32) (x6 : Int32) (s0 : Nat) (s1 : Int32) (h : mH) (H : f_X19_says_b129 rc_X19_and rc_X19_bracket rc_X19_or rc_X19_says r0 x1 x2 x3 x4 x5 x6 s0 s1 h = some o) : X G C (mi_X19_says (d + 1)) 129 [(0, .ref r0), (1, .int x1), (2, .int x2), (3, .int x3), (4, .int x4), (5, .int x5), (6, .int x6)] [.int s1, .ref s0] h := by
  unfold f_X19_says_b129 at H
  refine x_iconst (4 : Int32) dX19_says_129 ic_4 ?_
  obtain ⟨c12, H⟩ := oit H
  rcases obT H with ⟨a12, h12, e12, rfl⟩ | ⟨v12, h12, e12, H⟩
  · exact x_goX (t_X6_need C _ e12) (x_rU (M' := mi_X6_need) (n := 2) (As := [.int s1, .int (4 : Int32)]) (t_X6_need C _ e12) c12 up_X19_27_7 (by first | decide +kernel | (dsimp only [mi_X19_and, mi_X19_bracket, mi_X19_or, mi_X19_says]; decide +kernel)) ⟨by show 4 + 1 ≤ 13 + (d + 1); omega, Nat.le_of_ble_eq_true rfl⟩ q749 rfl (Nat.le_of_ble_eq_true rfl) dX19_says_130) hE
  refine x_goR (r := none) (t_X6_need C _ e12) (x_rU (M' := mi_X6_need) (n := 2) (As := [.int s1, .int (4 : Int32)]) (t_X6_need C _ e12) c12 up_X19_27_7 (by first | decide +kernel | (dsimp only [mi_X19_and, mi_X19_bracket, mi_X19_or, mi_X19_says]; decide +kernel)) ⟨by show 4 + 1 ≤ 13 + (d + 1); omega, Nat.le_of_ble_eq_true rfl⟩ q749 rfl (Nat.le_of_ble_eq_true rfl) dX19_says_130) ?_
  refine x_aload_n 0 rfl dX19_says_133 ?_
  refine x_dup dX19_says_134 rfl ?_
  obtain ⟨v13, e13, H⟩ := ob H
  refine x_getf fg_X19_80 (gFi_spec e13) dX19_says_135 ?_
  refine x_iconst (1 : Int32) dX19_says_138 ic_1 ?_
  refine x_iadd dX19_says_139 ?_
  obtain ⟨h14, e14, H⟩ := ob H
  refine x_putf (fp_X19_80 _) rfl rfl e14 dX19_says_140 ?_
  refine x_aload_n 0 rfl dX19_says_143 ?_
  refine x_dup dX19_says_144 rfl ?_
  obtain ⟨v15, e15, H⟩ := ob H
  refine x_getf fg_X19_83 (gFi_spec e15) dX19_says_145 ?_
  refine x_iconst (1 : Int32) dX19_says_148 ic_1 ?_
  refine x_iadd dX19_says_149 ?_
  obtain ⟨h16, e16, H⟩ := ob H
  refine x_putf (fp_X19_83 _) rfl rfl e16 dX19_says_150 ?_
  refine x_aload_n 0 rfl dX19_says_153 ?_
  obtain ⟨c17, H⟩ := oit H
  obtain ⟨a17, g17, e17, H⟩ := obR H
  refine x_callU (M' := mi_X6_go) (n := 0) (As := []) (t_X6_go C _ e17) c17 up_X19_15_7 (by first | decide +kernel | (dsimp only [mi_X19_and, mi_X19_bracket, mi_X19_or, mi_X19_says]; decide +kernel)) ⟨by show 9 + 1 ≤ 13 + (d + 1); omega, Nat.le_of_ble_eq_true rfl⟩ q522 rfl (Nat.le_of_ble_eq_true rfl) dX19_says_154 ?_
  refine x_iload_n 1 rfl dX19_says_157 ?_
  refine x_if_eq 168 dX19_says_158 (by first | decide | (dsimp only [mi_X19_and, mi_X19_bracket, mi_X19_or, mi_X19_says]; decide)) (fun c18 => ?_) (fun c18 => ?_)
  · rw [if_pos c18] at H
    refine x_iload_n 2 rfl dX19_says_168 ?_
    refine x_if_eq 186 dX19_says_169 (by first | decide | (dsimp only [mi_X19_and, mi_X19_bracket, mi_X19_or, mi_X19_says]; decide)) (fun c19 => ?_) (fun c19 => ?_)
    · rw [if_pos c19] at H
      refine x_iload 4 rfl dX19_says_186 ?_
      refine x_if_eq 231 dX19_says_188 (by first | decide | (dsimp only [mi_X19_and, mi_X19_bracket, mi_X19_or, mi_X19_says]; decide)) (fun c20 => ?_) (fun c20 => ?_)
      · rw [if_pos c20] at H
        refine x_iload 5 rfl dX19_says_231 ?_
        refine x_iconst (-1 : Int32) dX19_says_233 ic_m1 ?_
        refine x_icmp_eq 249 dX19_says_234 (by first | decide | (dsimp only [mi_X19_and, mi_X19_bracket, mi_X19_or, mi_X19_says]; decide)) (fun c21 => ?_) (fun c21 => ?_)
        · rw [if_pos c21] at H
          refine x_aload_n 0 rfl dX19_says_249 ?_
          refine x_iload 6 rfl dX19_says_250 ?_
          obtain ⟨c22, H⟩ := oit H
          rcases obT H with ⟨a22, h22, e22, rfl⟩ | ⟨v22, h22, e22, H⟩
          · exact x_goX (t_X19_than C _ e22) (x_rV (M' := mi_X19_than) (n := 1) (As := [.int x6]) (t_X19_than C _ e22) c22 rfl rfl md_X19_than ⟨by show 11 + 1 ≤ 13 + (d + 1); omega, Nat.le_of_ble_eq_true rfl⟩ q1756 q1758 qs48 q157 q1759 rfl (Nat.le_of_ble_eq_true rfl) dX19_says_252) hE
          refine x_goR (r := (some (.ref v22))) (t_X19_than C _ e22) (x_rV (M' := mi_X19_than) (n := 1) (As := [.int x6]) (t_X19_than C _ e22) c22 rfl rfl md_X19_than ⟨by show 11 + 1 ≤ 13 + (d + 1); omega, Nat.le_of_ble_eq_true rfl⟩ q1756 q1758 qs48 q157 q1759 rfl (Nat.le_of_ble_eq_true rfl) dX19_says_252) ?_
          refine X.sub [0] rfl ?_
          exact t_X19_says_b255 hrc_X19_and hrc_X19_bracket hrc_X19_or hrc_X19_says hE _ _ _ H
        · rw [if_neg c21] at H
          refine x_new (fs := [.int 0]) ci_18 q1746 q1747 q161 (nf_X23 G) rfl dX19_says_237 ?_
          refine x_dup dX19_says_240 rfl ?_
          refine x_iload 5 rfl dX19_says_241 ?_
          obtain ⟨c25, H⟩ := oit H
          obtain ⟨a25, g25, e25, H⟩ := obR H
          refine x_callI (M' := mi_X23_init) (n := 1) (As := [.int x5]) (t_X23_init C _ e25) c25 md_X23_init ⟨by show 2 + 1 ≤ 13 + (d + 1); omega, Nat.le_of_ble_eq_true rfl⟩ rfl rfl q1748 q1749 q161 q1750 rfl (Nat.le_of_ble_eq_true rfl) dX19_says_243 ?_
          refine x_goto (tgt := 255) dX19_says_246 (by first | decide | (dsimp only [mi_X19_and, mi_X19_bracket, mi_X19_or, mi_X19_says]; decide)) ?_
          refine X.sub [0] rfl ?_
          exact t_X19_says_b255 hrc_X19_and hrc_X19_bracket hrc_X19_or hrc_X19_says hE _ _ _ H
      · rw [if_neg c20] at H
        refine x_new (fs := [.int 0, .int 0]) ci_17 q1730 q1731 q160 (nf_X22 G) rfl dX19_says_191 ?_
        refine x_dup dX19_says_194 rfl ?_
        refine x_iload_n 3 rfl dX19_says_195 ?_
        refine x_iload_n 3 rfl dX19_says_196 ?_
        refine x_if_eq 214 dX19_says_197 (by first | decide | (dsimp only [mi_X19_and, mi_X19_bracket, mi_X19_or, mi_X19_says]; decide)) (fun c26 => ?_) (fun c26 => ?_)
        · rw [if_pos c26] at H
          refine x_aload_n 0 rfl dX19_says_214 ?_
          refine x_aload_n 0 rfl dX19_says_215 ?_
          obtain ⟨v27, e27, H⟩ := ob H
          refine x_getf fg_X19_9 (gFr_spec e27) dX19_says_216 ?_
          obtain ⟨v28, e28, H⟩ := ob H
          refine x_getf fg_X19_106 (gFr_spec e28) dX19_says_219 ?_
          obtain ⟨c29, H⟩ := oit H
          rcases obT H with ⟨a29, h29, e29, rfl⟩ | ⟨v29, h29, e29, H⟩
          · exact x_goX (t_X6_one C _ e29) (x_rU (M' := mi_X6_one) (n := 1) (As := [.ref v28]) (t_X6_one C _ e29) c29 up_X19_102_7 (by first | decide +kernel | (dsimp only [mi_X19_and, mi_X19_bracket, mi_X19_or, mi_X19_says]; decide +kernel)) ⟨by show 12 + 1 ≤ 13 + (d + 1); omega, Nat.le_of_ble_eq_true rfl⟩ q1046 rfl (Nat.le_of_ble_eq_true rfl) dX19_says_222) hE
          refine x_goR (r := (some (.int v29))) (t_X6_one C _ e29) (x_rU (M' := mi_X6_one) (n := 1) (As := [.ref v28]) (t_X6_one C _ e29) c29 up_X19_102_7 (by first | decide +kernel | (dsimp only [mi_X19_and, mi_X19_bracket, mi_X19_or, mi_X19_says]; decide +kernel)) ⟨by show 12 + 1 ≤ 13 + (d + 1); omega, Nat.le_of_ble_eq_true rfl⟩ q1046 rfl (Nat.le_of_ble_eq_true rfl) dX19_says_222) ?_
          refine X.sub [0] rfl ?_
          exact t_X19_says_b225 hrc_X19_and hrc_X19_bracket hrc_X19_or hrc_X19_says hE _ _ _ _ _ _ H
        · rw [if_neg c26] at H
          refine x_aload_n 0 rfl dX19_says_200 ?_
          refine x_aload_n 0 rfl dX19_says_201 ?_
          obtain ⟨v31, e31, H⟩ := ob H
          refine x_getf fg_X19_9 (gFr_spec e31) dX19_says_202 ?_
          obtain ⟨v32, e32, H⟩ := ob H
          refine x_getf fg_X19_96 (gFr_spec e32) dX19_says_205 ?_
          obtain ⟨c33, H⟩ := oit H
          rcases obT H with ⟨a33, h33, e33, rfl⟩ | ⟨v33, h33, e33, H⟩
          · exact x_goX (t_X6_one C _ e33) (x_rU (M' := mi_X6_one) (n := 1) (As := [.ref v32]) (t_X6_one C _ e33) c33 up_X19_102_7 (by first | decide +kernel | (dsimp only [mi_X19_and, mi_X19_bracket, mi_X19_or, mi_X19_says]; decide +kernel)) ⟨by show 12 + 1 ≤ 13 + (d + 1); omega, Nat.le_of_ble_eq_true rfl⟩ q1046 rfl (Nat.le_of_ble_eq_true rfl) dX19_says_208) hE
          refine x_goR (r := (some (.int v33))) (t_X6_one C _ e33) (x_rU (M' := mi_X6_one) (n := 1) (As := [.ref v32]) (t_X6_one C _ e33) c33 up_X19_102_7 (by first | decide +kernel | (dsimp only [mi_X19_and, mi_X19_bracket, mi_X19_or, mi_X19_says]; decide +kernel)) ⟨by show 12 + 1 ≤ 13 + (d + 1); omega, Nat.le_of_ble_eq_true rfl⟩ q1046 rfl (Nat.le_of_ble_eq_true rfl) dX19_says_208) ?_
          refine x_goto (tgt := 225) dX19_says_211 (by first | decide | (dsimp only [mi_X19_and, mi_X19_bracket, mi_X19_or, mi_X19_says]; decide)) ?_
          refine X.sub [0] rfl ?_
          exact t_X19_says_b225 hrc_X19_and hrc_X19_bracket hrc_X19_or hrc_X19_says hE _ _ _ _ _ _ H
    · rw [if_neg c19] at H
      refine x_new (fs := [.ref 0]) ci_16 q1717 q1718 q159 (nf_X21 G) rfl dX19_says_172 ?_
      refine x_dup dX19_says_175 rfl ?_
      refine x_aload_n 0 rfl dX19_says_176 ?_
      obtain ⟨c34, H⟩ := oit H
      rcases obT H with ⟨a34, h34, e34, rfl⟩ | ⟨v34, h34, e34, H⟩
      · exact x_goX (hrc_X19_says _ e34) (x_rV (M' := (mi_X19_says d)) (n := 0) (As := []) (hrc_X19_says _ e34) c34 rfl rfl (md_X19_says d) ⟨by show 13 + d + 1 ≤ 13 + (d + 1); omega, Nat.le_of_ble_eq_true rfl⟩ q1684 q1686 qs44 q157 q1687 rfl (Nat.le_of_ble_eq_true rfl) dX19_says_177) hE
      refine x_goR (r := (some (.ref v34))) (hrc_X19_says _ e34) (x_rV (M' := (mi_X19_says d)) (n := 0) (As := []) (hrc_X19_says _ e34) c34 rfl rfl (md_X19_says d) ⟨by show 13 + d + 1 ≤ 13 + (d + 1); omega, Nat.le_of_ble_eq_true rfl⟩ q1684 q1686 qs44 q157 q1687 rfl (Nat.le_of_ble_eq_true rfl) dX19_says_177) ?_
      obtain ⟨c35, H⟩ := oit H
      obtain ⟨a35, g35, e35, H⟩ := obR H
      refine x_callI (M' := mi_X21_init) (n := 1) (As := [.ref v34]) (t_X21_init C _ e35) c35 md_X21_init ⟨by show 2 + 1 ≤ 13 + (d + 1); omega, Nat.le_of_ble_eq_true rfl⟩ rfl rfl q1719 q1720 q159 q1721 rfl (Nat.le_of_ble_eq_true rfl) dX19_says_180 ?_
      refine x_goto (tgt := 255) dX19_says_183 (by first | decide | (dsimp only [mi_X19_and, mi_X19_bracket, mi_X19_or, mi_X19_says]; decide)) ?_
      refine X.sub [0] rfl ?_
      exact t_X19_says_b255 hrc_X19_and hrc_X19_bracket hrc_X19_or hrc_X19_says hE _ _ _ H
  · rw [if_neg c18] at H
    refine x_aload_n 0 rfl dX19_says_161 ?_
    obtain ⟨c36, H⟩ := oit H
    rcases obT H with ⟨a36, h36, e36, rfl⟩ | ⟨v36, h36, e36, H⟩
    · exact x_goX (hrc_X19_bracket _ e36) (x_rV (M' := (mi_X19_bracket d)) (n := 0) (As := []) (hrc_X19_bracket _ e36) c36 rfl rfl (md_X19_bracket d) ⟨by show 13 + d + 1 ≤ 13 + (d + 1); omega, Nat.le_of_ble_eq_true rfl⟩ q1713 q1715 qs47 q157 q1716 rfl (Nat.le_of_ble_eq_true rfl) dX19_says_162) hE
    refine x_goR (r := (some (.ref v36))) (hrc_X19_bracket _ e36) (x_rV (M' := (mi_X19_bracket d)) (n := 0) (As := []) (hrc_X19_bracket _ e36) c36 rfl rfl (md_X19_bracket d) ⟨by show 13 + d + 1 ≤ 13 + (d + 1); omega, Nat.le_of_ble_eq_true rfl⟩ q1713 q1715 qs47 q157 q1716 rfl (Nat.le_of_ble_eq_true rfl) dX19_says_162) ?_
    refine x_goto (tgt := 255) dX19_says_165 (by first | decide | (dsimp only [mi_X19_and, mi_X19_bracket, mi_X19_or, mi_X19_says]; decide)) ?_
    refine X.sub [0] rfl ?_
    exact t_X19_says_b255 hrc_X19_and hrc_X19_bracket hrc_X19_or hrc_X19_says hE _ _ _ H
def f_X19_says_b128 (rc_X19_and : Nat → mH → Option ((Nat ⊕ Nat) × mH)) (rc_X19_bracket : Nat → mH → Option ((Nat ⊕ Nat) × mH)) (rc_X19_or : Nat → mH → Option ((Nat ⊕ Nat) × mH)) (rc_X19_says : Nat → mH → Option ((Nat ⊕ Nat) × mH)) (r0 : Nat) (x1 : Int32) (x2 : Int32) (x3 : Int32) (x4 : Int32) (x5 : Int32) (x6 : Int32) (s0 : Nat) (h : mH) : Option ((Nat ⊕ Nat) × mH) := f_X19_says_b129 rc_X19_and rc_X19_bracket rc_X19_or rc_X19_says r0 x1 x2 x3 x4 x5 x6 s0 (0 : Int32) h
theorem t_X19_says_b128 {G : xG} {C : xC} {d : Nat} {rc_X19_and : Nat → mH → Option ((Nat ⊕ Nat) × mH)} (hrc_X19_and : ∀ {l : Launch} {r0 : Nat} (h : mH) {o : (Nat ⊕ Nat) × mH}, rc_X19_and r0 h = some o → XT G l (mi_X19_and d) [.ref r0] h (xoA "StrangerMarket$Fault" o.1) o.2) {rc_X19_bracket : Nat → mH → Option ((Nat ⊕ Nat) × mH)} (hrc_X19_bracket : ∀ {l : Launch} {r0 : Nat} (h : mH) {o : (Nat ⊕ Nat) × mH}, rc_X19_bracket r0 h = some o → XT G l (mi_X19_bracket d) [.ref r0] h (xoA "StrangerMarket$Fault" o.1) o.2) {rc_X19_or : Nat → mH → Option ((Nat ⊕ Nat) × mH)} (hrc_X19_or : ∀ {l : Launch} {r0 : Nat} (h : mH) {o : (Nat ⊕ Nat) × mH}, rc_X19_or r0 h = some o → XT G l (mi_X19_or d) [.ref r0] h (xoA "StrangerMarket$Fault" o.1) o.2) {rc_X19_says : Nat → mH → Option ((Nat ⊕ Nat) × mH)} (hrc_X19_says : ∀ {l : Launch} {r0 : Nat} (h : mH) {o : (Nat ⊕ Nat) × mH}, rc_X19_says r0 h = some o → XT G l (mi_X19_says d) [.ref r0] h (xoA "StrangerMarket$Fault" o.1) o.2) {o : (Nat ⊕ Nat) × mH} (hE : xEndT G C [] (xoA "StrangerMarket$Fault" o.1) o.2) (r0 : Nat) (x1 : Int32) (x2 : Int32) (x3 : Int32) (x4 : Int32) (x5 : Int32) (x6 : Int32) (s0 : Nat) (h : mH) (H : f_X19_says_b128 rc_X19_and rc_X19_bracket rc_X19_or rc_X19_says r0 x1 x2 x3 x4 x5 x6 s0 h = some o) : X G C (mi_X19_says (d + 1)) 128 [(0, .ref r0), (1, .int x1), (2, .int x2), (3, .int x3), (4, .int x4), (5, .int x5), (6, .int x6)] [.ref s0] h := by
  unfold f_X19_says_b128 at H
  refine x_iconst (0 : Int32) dX19_says_128 ic_0 ?_
  exact t_X19_says_b129 hrc_X19_and hrc_X19_bracket hrc_X19_or hrc_X19_says hE _ _ _ _ _ _ _ _ _ _ H
def f_X19_says_b101 (rc_X19_and : Nat → mH → Option ((Nat ⊕ Nat) × mH)) (rc_X19_bracket : Nat → mH → Option ((Nat ⊕ Nat) × mH)) (rc_X19_or : Nat → mH → Option ((Nat ⊕ Nat) × mH)) (rc_X19_says : Nat → mH → Option ((Nat ⊕ Nat) × mH)) (r0 : Nat) (x1 : Int32) (x2 : Int32) (x3 : Int32) (x4 : Int32) (x5 : Int32) (x6 : Int32) (s0 : Nat) (s1 : Int32) (h : mH) : Option ((Nat ⊕ Nat) × mH) := if gC h s0 ∈ [7] then bT (f_X6_need s0 s1 (1 : Int32) h) fun v9 h9 => (gFi [7] 10 h9 r0).bind fun v10 => if (20 : Int32) ≤ v10 then f_X19_says_b128 rc_X19_and rc_X19_bracket rc_X19_or rc_X19_says r0 x1 x2 x3 x4 x5 x6 r0 h9 else (gFi [7] 11 h9 r0).bind fun v37 => if (8 : Int32) ≤ v37 then f_X19_says_b128 rc_X19_and rc_X19_bracket rc_X19_or rc_X19_says r0 x1 x2 x3 x4 x5 x6 r0 h9 else f_X19_says_b129 rc_X19_and rc_X19_bracket rc_X19_or rc_X19_says r0 x1 x2 x3 x4 x5 x6 r0 (1 : Int32) h9 else none
theorem t_X19_says_b101 {G : xG} {C : xC} {d : Nat} {rc_X19_and : Nat → mH → Option ((Nat ⊕ Nat) × mH)} (hrc_X19_and : ∀ {l : Launch} {r0 : Nat} (h : mH) {o : (Nat ⊕ Nat) × mH}, rc_X19_and r0 h = some o → XT G l (mi_X19_and d) [.ref r0] h (xoA "StrangerMarket$Fault" o.1) o.2) {rc_X19_bracket : Nat → mH → Option ((Nat ⊕ Nat) × mH)} (hrc_X19_bracket : ∀ {l : Launch} {r0 : Nat} (h : mH) {o : (Nat ⊕ Nat) × mH}, rc_X19_bracket r0 h = some o → XT G l (mi_X19_bracket d) [.ref r0] h (xoA "StrangerMarket$Fault" o.1) o.2) {rc_X19_or : Nat → mH → Option ((Nat ⊕ Nat) × mH)} (hrc_X19_or : ∀ {l : Launch} {r0 : Nat} (h : mH) {o : (Nat ⊕ Nat) × mH}, rc_X19_or r0 h = some o → XT G l (mi_X19_or d) [.ref r0] h (xoA "StrangerMarket$Fault" o.1) o.2) {rc_X19_says : Nat → mH → Option ((Nat ⊕ Nat) × mH)} (hrc_X19_says : ∀ {l : Launch} {r0 : Nat} (h : mH) {o : (Nat ⊕ Nat) × mH}, rc_X19_says r0 h = some o → XT G l (mi_X19_says d) [.ref r0] h (xoA "StrangerMarket$Fault" o.1) o.2) {o : (Nat ⊕ Nat) × mH} (hE : xEndT G C [] (xoA "StrangerMarket$Fault" o.1) o.2) (r0 : Nat) (x1 : Int32) (x2 : Int32) (x3 : Int32) (x4 : Int32) (x5 : Int32) (x6 : Int32) (s0 : Nat) (s1 : Int32) (h : mH) (H : f_X19_says_b101 rc_X19_and rc_X19_bracket rc_X19_or rc_X19_says r0 x1 x2 x3 x4 x5 x6 s0 s1 h = some o) : X G C (mi_X19_says (d + 1)) 101 [(0, .ref r0), (1, .int x1), (2, .int x2), (3, .int x3), (4, .int x4), (5, .int x5), (6, .int x6)] [.int s1, .ref s0] h := by
  unfold f_X19_says_b101 at H
  refine x_iconst (1 : Int32) dX19_says_101 ic_1 ?_
  obtain ⟨c9, H⟩ := oit H
  rcases obT H with ⟨a9, h9, e9, rfl⟩ | ⟨v9, h9, e9, H⟩
  · exact x_goX (t_X6_need C _ e9) (x_rU (M' := mi_X6_need) (n := 2) (As := [.int s1, .int (1 : Int32)]) (t_X6_need C _ e9) c9 up_X19_27_7 (by first | decide +kernel | (dsimp only [mi_X19_and, mi_X19_bracket, mi_X19_or, mi_X19_says]; decide +kernel)) ⟨by show 4 + 1 ≤ 13 + (d + 1); omega, Nat.le_of_ble_eq_true rfl⟩ q749 rfl (Nat.le_of_ble_eq_true rfl) dX19_says_102) hE
  refine x_goR (r := none) (t_X6_need C _ e9) (x_rU (M' := mi_X6_need) (n := 2) (As := [.int s1, .int (1 : Int32)]) (t_X6_need C _ e9) c9 up_X19_27_7 (by first | decide +kernel | (dsimp only [mi_X19_and, mi_X19_bracket, mi_X19_or, mi_X19_says]; decide +kernel)) ⟨by show 4 + 1 ≤ 13 + (d + 1); omega, Nat.le_of_ble_eq_true rfl⟩ q749 rfl (Nat.le_of_ble_eq_true rfl) dX19_says_102) ?_
  refine x_aload_n 0 rfl dX19_says_105 ?_
  refine x_aload_n 0 rfl dX19_says_106 ?_
  obtain ⟨v10, e10, H⟩ := ob H
  refine x_getf fg_X19_80 (gFi_spec e10) dX19_says_107 ?_
  refine x_bipush (20 : Int32) dX19_says_110 bi_20 ?_
  refine x_icmp_ge 128 dX19_says_112 (by first | decide | (dsimp only [mi_X19_and, mi_X19_bracket, mi_X19_or, mi_X19_says]; decide)) (fun c11 => ?_) (fun c11 => ?_)
  · rw [if_pos c11] at H
    exact t_X19_says_b128 hrc_X19_and hrc_X19_bracket hrc_X19_or hrc_X19_says hE _ _ _ _ _ _ _ _ _ H
  · rw [if_neg c11] at H
    refine x_aload_n 0 rfl dX19_says_115 ?_
    obtain ⟨v37, e37, H⟩ := ob H
    refine x_getf fg_X19_83 (gFi_spec e37) dX19_says_116 ?_
    refine x_bipush (8 : Int32) dX19_says_119 bi_8 ?_
    refine x_icmp_ge 128 dX19_says_121 (by first | decide | (dsimp only [mi_X19_and, mi_X19_bracket, mi_X19_or, mi_X19_says]; decide)) (fun c38 => ?_) (fun c38 => ?_)
    · rw [if_pos c38] at H
      exact t_X19_says_b128 hrc_X19_and hrc_X19_bracket hrc_X19_or hrc_X19_says hE _ _ _ _ _ _ _ _ _ H
    · rw [if_neg c38] at H
      refine x_iconst (1 : Int32) dX19_says_124 ic_1 ?_
      refine x_goto (tgt := 129) dX19_says_125 (by first | decide | (dsimp only [mi_X19_and, mi_X19_bracket, mi_X19_or, mi_X19_says]; decide)) ?_
      exact t_X19_says_b129 hrc_X19_and hrc_X19_bracket hrc_X19_or hrc_X19_says hE _ _ _ _ _ _ _ _ _ _ H
def f_X19_says_b96 (rc_X19_and : Nat → mH → Option ((Nat ⊕ Nat) × mH)) (rc_X19_bracket : Nat → mH → Option ((Nat ⊕ Nat) × mH)) (rc_X19_or : Nat → mH → Option ((Nat ⊕ Nat) × mH)) (rc_X19_says : Nat → mH → Option ((Nat ⊕ Nat) × mH)) (r0 : Nat) (x1 : Int32) (x2 : Int32) (x3 : Int32) (x4 : Int32) (x5 : Int32) (x6 : Int32) (s0 : Nat) (h : mH) : Option ((Nat ⊕ Nat) × mH) := f_X19_says_b101 rc_X19_and rc_X19_bracket rc_X19_or rc_X19_says r0 x1 x2 x3 x4 x5 x6 s0 (1 : Int32) h
theorem t_X19_says_b96 {G : xG} {C : xC} {d : Nat} {rc_X19_and : Nat → mH → Option ((Nat ⊕ Nat) × mH)} (hrc_X19_and : ∀ {l : Launch} {r0 : Nat} (h : mH) {o : (Nat ⊕ Nat) × mH}, rc_X19_and r0 h = some o → XT G l (mi_X19_and d) [.ref r0] h (xoA "StrangerMarket$Fault" o.1) o.2) {rc_X19_bracket : Nat → mH → Option ((Nat ⊕ Nat) × mH)} (hrc_X19_bracket : ∀ {l : Launch} {r0 : Nat} (h : mH) {o : (Nat ⊕ Nat) × mH}, rc_X19_bracket r0 h = some o → XT G l (mi_X19_bracket d) [.ref r0] h (xoA "StrangerMarket$Fault" o.1) o.2) {rc_X19_or : Nat → mH → Option ((Nat ⊕ Nat) × mH)} (hrc_X19_or : ∀ {l : Launch} {r0 : Nat} (h : mH) {o : (Nat ⊕ Nat) × mH}, rc_X19_or r0 h = some o → XT G l (mi_X19_or d) [.ref r0] h (xoA "StrangerMarket$Fault" o.1) o.2) {rc_X19_says : Nat → mH → Option ((Nat ⊕ Nat) × mH)} (hrc_X19_says : ∀ {l : Launch} {r0 : Nat} (h : mH) {o : (Nat ⊕ Nat) × mH}, rc_X19_says r0 h = some o → XT G l (mi_X19_says d) [.ref r0] h (xoA "StrangerMarket$Fault" o.1) o.2) {o : (Nat ⊕ Nat) × mH} (hE : xEndT G C [] (xoA "StrangerMarket$Fault" o.1) o.2) (r0 : Nat) (x1 : Int32) (x2 : Int32) (x3 : Int32) (x4 : Int32) (x5 : Int32) (x6 : Int32) (s0 : Nat) (h : mH) (H : f_X19_says_b96 rc_X19_and rc_X19_bracket rc_X19_or rc_X19_says r0 x1 x2 x3 x4 x5 x6 s0 h = some o) : X G C (mi_X19_says (d + 1)) 96 [(0, .ref r0), (1, .int x1), (2, .int x2), (3, .int x3), (4, .int x4), (5, .int x5), (6, .int x6)] [.ref s0] h := by
  unfold f_X19_says_b96 at H
  refine x_iconst (1 : Int32) dX19_says_96 ic_1 ?_
  refine x_goto (tgt := 101) dX19_says_97 (by first | decide | (dsimp only [mi_X19_and, mi_X19_bracket, mi_X19_or, mi_X19_says]; decide)) ?_
  exact t_X19_says_b101 hrc_X19_and hrc_X19_bracket hrc_X19_or hrc_X19_says hE _ _ _ _ _ _ _ _ _ _ H
def f_X19_says_b56 (rc_X19_and : Nat → mH → Option ((Nat ⊕ Nat) × mH)) (rc_X19_bracket : Nat → mH → Option ((Nat ⊕ Nat) × mH)) (rc_X19_or : Nat → mH → Option ((Nat ⊕ Nat) × mH)) (rc_X19_says : Nat → mH → Option ((Nat ⊕ Nat) × mH)) (r0 : Nat) (x1 : Int32) (x2 : Int32) (x3 : Int32) (s0 : Int32) (h : mH) : Option ((Nat ⊕ Nat) × mH) := if gC h r0 = 7 then bR (f_X19_plain r0  h) fun a6 g6 => if gC g6 r0 = 7 then bR (f_X19_numbered r0  g6) fun a7 g7 => if x1 = 0 then if x2 = 0 then if s0 = 0 then if a6 = (-1 : Int32) then if a7 = (-1 : Int32) then f_X19_says_b101 rc_X19_and rc_X19_bracket rc_X19_or rc_X19_says r0 x1 x2 x3 s0 a6 a7 r0 (0 : Int32) g7 else f_X19_says_b96 rc_X19_and rc_X19_bracket rc_X19_or rc_X19_says r0 x1 x2 x3 s0 a6 a7 r0 g7 else f_X19_says_b96 rc_X19_and rc_X19_bracket rc_X19_or rc_X19_says r0 x1 x2 x3 s0 a6 a7 r0 g7 else f_X19_says_b96 rc_X19_and rc_X19_bracket rc_X19_or rc_X19_says r0 x1 x2 x3 s0 a6 a7 r0 g7 else f_X19_says_b96 rc_X19_and rc_X19_bracket rc_X19_or rc_X19_says r0 x1 x2 x3 s0 a6 a7 r0 g7 else f_X19_says_b96 rc_X19_and rc_X19_bracket rc_X19_or rc_X19_says r0 x1 x2 x3 s0 a6 a7 r0 g7 else none else none
theorem t_X19_says_b56 {G : xG} {C : xC} {d : Nat} {rc_X19_and : Nat → mH → Option ((Nat ⊕ Nat) × mH)} (hrc_X19_and : ∀ {l : Launch} {r0 : Nat} (h : mH) {o : (Nat ⊕ Nat) × mH}, rc_X19_and r0 h = some o → XT G l (mi_X19_and d) [.ref r0] h (xoA "StrangerMarket$Fault" o.1) o.2) {rc_X19_bracket : Nat → mH → Option ((Nat ⊕ Nat) × mH)} (hrc_X19_bracket : ∀ {l : Launch} {r0 : Nat} (h : mH) {o : (Nat ⊕ Nat) × mH}, rc_X19_bracket r0 h = some o → XT G l (mi_X19_bracket d) [.ref r0] h (xoA "StrangerMarket$Fault" o.1) o.2) {rc_X19_or : Nat → mH → Option ((Nat ⊕ Nat) × mH)} (hrc_X19_or : ∀ {l : Launch} {r0 : Nat} (h : mH) {o : (Nat ⊕ Nat) × mH}, rc_X19_or r0 h = some o → XT G l (mi_X19_or d) [.ref r0] h (xoA "StrangerMarket$Fault" o.1) o.2) {rc_X19_says : Nat → mH → Option ((Nat ⊕ Nat) × mH)} (hrc_X19_says : ∀ {l : Launch} {r0 : Nat} (h : mH) {o : (Nat ⊕ Nat) × mH}, rc_X19_says r0 h = some o → XT G l (mi_X19_says d) [.ref r0] h (xoA "StrangerMarket$Fault" o.1) o.2) {o : (Nat ⊕ Nat) × mH} (hE : xEndT G C [] (xoA "StrangerMarket$Fault" o.1) o.2) (r0 : Nat) (x1 : Int32) (x2 : Int32) (x3 : Int32) (s0 : Int32) (h : mH) (H : f_X19_says_b56 rc_X19_and rc_X19_bracket rc_X19_or rc_X19_says r0 x1 x2 x3 s0 h = some o) : X G C (mi_X19_says (d + 1)) 56 [(0, .ref r0), (1, .int x1), (2, .int x2), (3, .int x3)] [.int s0] h := by
  unfold f_X19_says_b56 at H
  refine x_istore [1, 2, 3, 4, 0] dX19_says_56 (by first | decide | (dsimp only [mi_X19_and, mi_X19_bracket, mi_X19_or, mi_X19_says]; decide)) rfl ?_
  refine x_aload_n 0 rfl dX19_says_58 ?_
  obtain ⟨c6, H⟩ := oit H
  obtain ⟨a6, g6, e6, H⟩ := obR H
  refine x_callV (M' := mi_X19_plain) (n := 0) (As := []) (t_X19_plain C _ e6) c6 rfl rfl md_X19_plain ⟨by show 4 + 1 ≤ 13 + (d + 1); omega, Nat.le_of_ble_eq_true rfl⟩ q1694 q1696 qs45 q157 q1697 rfl (Nat.le_of_ble_eq_true rfl) dX19_says_59 ?_
  refine x_istore [1, 2, 3, 4, 5, 0] dX19_says_62 (by first | decide | (dsimp only [mi_X19_and, mi_X19_bracket, mi_X19_or, mi_X19_says]; decide)) rfl ?_
  refine x_aload_n 0 rfl dX19_says_64 ?_
  obtain ⟨c7, H⟩ := oit H
  obtain ⟨a7, g7, e7, H⟩ := obR H
  refine x_callV (M' := mi_X19_numbered) (n := 0) (As := []) (t_X19_numbered C _ e7) c7 rfl rfl md_X19_numbered ⟨by show 4 + 1 ≤ 13 + (d + 1); omega, Nat.le_of_ble_eq_true rfl⟩ q1702 q1704 qs46 q157 q1705 rfl (Nat.le_of_ble_eq_true rfl) dX19_says_65 ?_
  refine x_istore [1, 2, 3, 4, 5, 6, 0] dX19_says_68 (by first | decide | (dsimp only [mi_X19_and, mi_X19_bracket, mi_X19_or, mi_X19_says]; decide)) rfl ?_
  refine x_aload_n 0 rfl dX19_says_70 ?_
  refine x_iload_n 1 rfl dX19_says_71 ?_
  refine x_if_ne 96 dX19_says_72 (by first | decide | (dsimp only [mi_X19_and, mi_X19_bracket, mi_X19_or, mi_X19_says]; decide)) (fun c8 => ?_) (fun c8 => ?_)
  · rw [if_neg c8] at H
    exact t_X19_says_b96 hrc_X19_and hrc_X19_bracket hrc_X19_or hrc_X19_says hE _ _ _ _ _ _ _ _ _ H
  · rw [if_pos c8] at H
    refine x_iload_n 2 rfl dX19_says_75 ?_
    refine x_if_ne 96 dX19_says_76 (by first | decide | (dsimp only [mi_X19_and, mi_X19_bracket, mi_X19_or, mi_X19_says]; decide)) (fun c39 => ?_) (fun c39 => ?_)
    · rw [if_neg c39] at H
      exact t_X19_says_b96 hrc_X19_and hrc_X19_bracket hrc_X19_or hrc_X19_says hE _ _ _ _ _ _ _ _ _ H
    · rw [if_pos c39] at H
      refine x_iload 4 rfl dX19_says_79 ?_
      refine x_if_ne 96 dX19_says_81 (by first | decide | (dsimp only [mi_X19_and, mi_X19_bracket, mi_X19_or, mi_X19_says]; decide)) (fun c40 => ?_) (fun c40 => ?_)
      · rw [if_neg c40] at H
        exact t_X19_says_b96 hrc_X19_and hrc_X19_bracket hrc_X19_or hrc_X19_says hE _ _ _ _ _ _ _ _ _ H
      · rw [if_pos c40] at H
        refine x_iload 5 rfl dX19_says_84 ?_
        refine x_iconst (-1 : Int32) dX19_says_86 ic_m1 ?_
        refine x_icmp_ne 96 dX19_says_87 (by first | decide | (dsimp only [mi_X19_and, mi_X19_bracket, mi_X19_or, mi_X19_says]; decide)) (fun c41 => ?_) (fun c41 => ?_)
        · rw [if_neg c41] at H
          exact t_X19_says_b96 hrc_X19_and hrc_X19_bracket hrc_X19_or hrc_X19_says hE _ _ _ _ _ _ _ _ _ H
        · rw [if_pos c41] at H
          refine x_iload 6 rfl dX19_says_90 ?_
          refine x_iconst (-1 : Int32) dX19_says_92 ic_m1 ?_
          refine x_icmp_eq 100 dX19_says_93 (by first | decide | (dsimp only [mi_X19_and, mi_X19_bracket, mi_X19_or, mi_X19_says]; decide)) (fun c42 => ?_) (fun c42 => ?_)
          · rw [if_pos c42] at H
            refine x_iconst (0 : Int32) dX19_says_100 ic_0 ?_
            exact t_X19_says_b101 hrc_X19_and hrc_X19_bracket hrc_X19_or hrc_X19_says hE _ _ _ _ _ _ _ _ _ _ H
          · rw [if_neg c42] at H
            exact t_X19_says_b96 hrc_X19_and hrc_X19_bracket hrc_X19_or hrc_X19_says hE _ _ _ _ _ _ _ _ _ H
def f_X19_says_b51 (rc_X19_and : Nat → mH → Option ((Nat ⊕ Nat) × mH)) (rc_X19_bracket : Nat → mH → Option ((Nat ⊕ Nat) × mH)) (rc_X19_or : Nat → mH → Option ((Nat ⊕ Nat) × mH)) (rc_X19_says : Nat → mH → Option ((Nat ⊕ Nat) × mH)) (r0 : Nat) (x1 : Int32) (x2 : Int32) (x3 : Int32) (h : mH) : Option ((Nat ⊕ Nat) × mH) := f_X19_says_b56 rc_X19_and rc_X19_bracket rc_X19_or rc_X19_says r0 x1 x2 x3 (1 : Int32) h
theorem t_X19_says_b51 {G : xG} {C : xC} {d : Nat} {rc_X19_and : Nat → mH → Option ((Nat ⊕ Nat) × mH)} (hrc_X19_and : ∀ {l : Launch} {r0 : Nat} (h : mH) {o : (Nat ⊕ Nat) × mH}, rc_X19_and r0 h = some o → XT G l (mi_X19_and d) [.ref r0] h (xoA "StrangerMarket$Fault" o.1) o.2) {rc_X19_bracket : Nat → mH → Option ((Nat ⊕ Nat) × mH)} (hrc_X19_bracket : ∀ {l : Launch} {r0 : Nat} (h : mH) {o : (Nat ⊕ Nat) × mH}, rc_X19_bracket r0 h = some o → XT G l (mi_X19_bracket d) [.ref r0] h (xoA "StrangerMarket$Fault" o.1) o.2) {rc_X19_or : Nat → mH → Option ((Nat ⊕ Nat) × mH)} (hrc_X19_or : ∀ {l : Launch} {r0 : Nat} (h : mH) {o : (Nat ⊕ Nat) × mH}, rc_X19_or r0 h = some o → XT G l (mi_X19_or d) [.ref r0] h (xoA "StrangerMarket$Fault" o.1) o.2) {rc_X19_says : Nat → mH → Option ((Nat ⊕ Nat) × mH)} (hrc_X19_says : ∀ {l : Launch} {r0 : Nat} (h : mH) {o : (Nat ⊕ Nat) × mH}, rc_X19_says r0 h = some o → XT G l (mi_X19_says d) [.ref r0] h (xoA "StrangerMarket$Fault" o.1) o.2) {o : (Nat ⊕ Nat) × mH} (hE : xEndT G C [] (xoA "StrangerMarket$Fault" o.1) o.2) (r0 : Nat) (x1 : Int32) (x2 : Int32) (x3 : Int32) (h : mH) (H : f_X19_says_b51 rc_X19_and rc_X19_bracket rc_X19_or rc_X19_says r0 x1 x2 x3 h = some o) : X G C (mi_X19_says (d + 1)) 51 [(0, .ref r0), (1, .int x1), (2, .int x2), (3, .int x3)] [] h := by
  unfold f_X19_says_b51 at H
  refine x_iconst (1 : Int32) dX19_says_51 ic_1 ?_
  refine x_goto (tgt := 56) dX19_says_52 (by first | decide | (dsimp only [mi_X19_and, mi_X19_bracket, mi_X19_or, mi_X19_says]; decide)) ?_
  exact t_X19_says_b56 hrc_X19_and hrc_X19_bracket hrc_X19_or hrc_X19_says hE _ _ _ _ _ _ H
def f_X19_says_b23 (rc_X19_and : Nat → mH → Option ((Nat ⊕ Nat) × mH)) (rc_X19_bracket : Nat → mH → Option ((Nat ⊕ Nat) × mH)) (rc_X19_or : Nat → mH → Option ((Nat ⊕ Nat) × mH)) (rc_X19_says : Nat → mH → Option ((Nat ⊕ Nat) × mH)) (r0 : Nat) (s0 : Int32) (h : mH) : Option ((Nat ⊕ Nat) × mH) := if gC h r0 ∈ [7] then bR (f_X6_is r0 30 h) fun a3 g3 => if gC g3 r0 ∈ [7] then bR (f_X6_is r0 31 g3) fun a4 g4 => if a4 = 0 then if gC g4 r0 ∈ [7] then bR (f_X6_is r0 32 g4) fun a43 g43 => if a43 = 0 then f_X19_says_b56 rc_X19_and rc_X19_bracket rc_X19_or rc_X19_says r0 s0 a3 a4 (0 : Int32) g43 else f_X19_says_b51 rc_X19_and rc_X19_bracket rc_X19_or rc_X19_says r0 s0 a3 a4 g43 else none else f_X19_says_b51 rc_X19_and rc_X19_bracket rc_X19_or rc_X19_says r0 s0 a3 a4 g4 else none else none
theorem t_X19_says_b23 {G : xG} {C : xC} {d : Nat} {rc_X19_and : Nat → mH → Option ((Nat ⊕ Nat) × mH)} (hrc_X19_and : ∀ {l : Launch} {r0 : Nat} (h : mH) {o : (Nat ⊕ Nat) × mH}, rc_X19_and r0 h = some o → XT G l (mi_X19_and d) [.ref r0] h (xoA "StrangerMarket$Fault" o.1) o.2) {rc_X19_bracket : Nat → mH → Option ((Nat ⊕ Nat) × mH)} (hrc_X19_bracket : ∀ {l : Launch} {r0 : Nat} (h : mH) {o : (Nat ⊕ Nat) × mH}, rc_X19_bracket r0 h = some o → XT G l (mi_X19_bracket d) [.ref r0] h (xoA "StrangerMarket$Fault" o.1) o.2) {rc_X19_or : Nat → mH → Option ((Nat ⊕ Nat) × mH)} (hrc_X19_or : ∀ {l : Launch} {r0 : Nat} (h : mH) {o : (Nat ⊕ Nat) × mH}, rc_X19_or r0 h = some o → XT G l (mi_X19_or d) [.ref r0] h (xoA "StrangerMarket$Fault" o.1) o.2) {rc_X19_says : Nat → mH → Option ((Nat ⊕ Nat) × mH)} (hrc_X19_says : ∀ {l : Launch} {r0 : Nat} (h : mH) {o : (Nat ⊕ Nat) × mH}, rc_X19_says r0 h = some o → XT G l (mi_X19_says d) [.ref r0] h (xoA "StrangerMarket$Fault" o.1) o.2) {o : (Nat ⊕ Nat) × mH} (hE : xEndT G C [] (xoA "StrangerMarket$Fault" o.1) o.2) (r0 : Nat) (s0 : Int32) (h : mH) (H : f_X19_says_b23 rc_X19_and rc_X19_bracket rc_X19_or rc_X19_says r0 s0 h = some o) : X G C (mi_X19_says (d + 1)) 23 [(0, .ref r0)] [.int s0] h := by
  unfold f_X19_says_b23 at H
  refine x_istore_n [1, 0] dX19_says_23 (by first | decide | (dsimp only [mi_X19_and, mi_X19_bracket, mi_X19_or, mi_X19_says]; decide)) rfl ?_
  refine x_aload_n 0 rfl dX19_says_24 ?_
  refine x_ldcS (tx := "not") (a := 30) (List.mem_of_getElem? (i := 22) rfl) (by first | decide | (dsimp only [mi_X19_and, mi_X19_bracket, mi_X19_or, mi_X19_says]; decide)) (by first | decide | (dsimp only [mi_X19_and, mi_X19_bracket, mi_X19_or, mi_X19_says]; decide)) dX19_says_25 ?_
  obtain ⟨c3, H⟩ := oit H
  obtain ⟨a3, g3, e3, H⟩ := obR H
  refine x_callU (M' := mi_X6_is) (n := 1) (As := [.ref 30]) (t_X6_is C _ e3) c3 up_X19_35_7 (by first | decide +kernel | (dsimp only [mi_X19_and, mi_X19_bracket, mi_X19_or, mi_X19_says]; decide +kernel)) ⟨by show 3 + 1 ≤ 13 + (d + 1); omega, Nat.le_of_ble_eq_true rfl⟩ q726 rfl (Nat.le_of_ble_eq_true rfl) dX19_says_27 ?_
  refine x_istore_n [1, 2, 0] dX19_says_30 (by first | decide | (dsimp only [mi_X19_and, mi_X19_bracket, mi_X19_or, mi_X19_says]; decide)) rfl ?_
  refine x_aload_n 0 rfl dX19_says_31 ?_
  refine x_ldcS (tx := "knows") (a := 31) (List.mem_of_getElem? (i := 23) rfl) (by first | decide | (dsimp only [mi_X19_and, mi_X19_bracket, mi_X19_or, mi_X19_says]; decide)) (by first | decide | (dsimp only [mi_X19_and, mi_X19_bracket, mi_X19_or, mi_X19_says]; decide)) dX19_says_32 ?_
  obtain ⟨c4, H⟩ := oit H
  obtain ⟨a4, g4, e4, H⟩ := obR H
  refine x_callU (M' := mi_X6_is) (n := 1) (As := [.ref 31]) (t_X6_is C _ e4) c4 up_X19_35_7 (by first | decide +kernel | (dsimp only [mi_X19_and, mi_X19_bracket, mi_X19_or, mi_X19_says]; decide +kernel)) ⟨by show 3 + 1 ≤ 13 + (d + 1); omega, Nat.le_of_ble_eq_true rfl⟩ q726 rfl (Nat.le_of_ble_eq_true rfl) dX19_says_34 ?_
  refine x_istore_n [1, 2, 3, 0] dX19_says_37 (by first | decide | (dsimp only [mi_X19_and, mi_X19_bracket, mi_X19_or, mi_X19_says]; decide)) rfl ?_
  refine x_iload_n 3 rfl dX19_says_38 ?_
  refine x_if_ne 51 dX19_says_39 (by first | decide | (dsimp only [mi_X19_and, mi_X19_bracket, mi_X19_or, mi_X19_says]; decide)) (fun c5 => ?_) (fun c5 => ?_)
  · rw [if_neg c5] at H
    exact t_X19_says_b51 hrc_X19_and hrc_X19_bracket hrc_X19_or hrc_X19_says hE _ _ _ _ _ H
  · rw [if_pos c5] at H
    refine x_aload_n 0 rfl dX19_says_42 ?_
    refine x_ldcS (tx := "wants") (a := 32) (List.mem_of_getElem? (i := 24) rfl) (by first | decide | (dsimp only [mi_X19_and, mi_X19_bracket, mi_X19_or, mi_X19_says]; decide)) (by first | decide | (dsimp only [mi_X19_and, mi_X19_bracket, mi_X19_or, mi_X19_says]; decide)) dX19_says_43 ?_
    obtain ⟨c43, H⟩ := oit H
    obtain ⟨a43, g43, e43, H⟩ := obR H
    refine x_callU (M' := mi_X6_is) (n := 1) (As := [.ref 32]) (t_X6_is C _ e43) c43 up_X19_35_7 (by first | decide +kernel | (dsimp only [mi_X19_and, mi_X19_bracket, mi_X19_or, mi_X19_says]; decide +kernel)) ⟨by show 3 + 1 ≤ 13 + (d + 1); omega, Nat.le_of_ble_eq_true rfl⟩ q726 rfl (Nat.le_of_ble_eq_true rfl) dX19_says_45 ?_
    refine x_if_eq 55 dX19_says_48 (by first | decide | (dsimp only [mi_X19_and, mi_X19_bracket, mi_X19_or, mi_X19_says]; decide)) (fun c44 => ?_) (fun c44 => ?_)
    · rw [if_pos c44] at H
      refine x_iconst (0 : Int32) dX19_says_55 ic_0 ?_
      exact t_X19_says_b56 hrc_X19_and hrc_X19_bracket hrc_X19_or hrc_X19_says hE _ _ _ _ _ _ H
    · rw [if_neg c44] at H
      exact t_X19_says_b51 hrc_X19_and hrc_X19_bracket hrc_X19_or hrc_X19_says hE _ _ _ _ _ H
def f_X19_says_b22 (rc_X19_and : Nat → mH → Option ((Nat ⊕ Nat) × mH)) (rc_X19_bracket : Nat → mH → Option ((Nat ⊕ Nat) × mH)) (rc_X19_or : Nat → mH → Option ((Nat ⊕ Nat) × mH)) (rc_X19_says : Nat → mH → Option ((Nat ⊕ Nat) × mH)) (r0 : Nat) (h : mH) : Option ((Nat ⊕ Nat) × mH) := f_X19_says_b23 rc_X19_and rc_X19_bracket rc_X19_or rc_X19_says r0 (0 : Int32) h
theorem t_X19_says_b22 {G : xG} {C : xC} {d : Nat} {rc_X19_and : Nat → mH → Option ((Nat ⊕ Nat) × mH)} (hrc_X19_and : ∀ {l : Launch} {r0 : Nat} (h : mH) {o : (Nat ⊕ Nat) × mH}, rc_X19_and r0 h = some o → XT G l (mi_X19_and d) [.ref r0] h (xoA "StrangerMarket$Fault" o.1) o.2) {rc_X19_bracket : Nat → mH → Option ((Nat ⊕ Nat) × mH)} (hrc_X19_bracket : ∀ {l : Launch} {r0 : Nat} (h : mH) {o : (Nat ⊕ Nat) × mH}, rc_X19_bracket r0 h = some o → XT G l (mi_X19_bracket d) [.ref r0] h (xoA "StrangerMarket$Fault" o.1) o.2) {rc_X19_or : Nat → mH → Option ((Nat ⊕ Nat) × mH)} (hrc_X19_or : ∀ {l : Launch} {r0 : Nat} (h : mH) {o : (Nat ⊕ Nat) × mH}, rc_X19_or r0 h = some o → XT G l (mi_X19_or d) [.ref r0] h (xoA "StrangerMarket$Fault" o.1) o.2) {rc_X19_says : Nat → mH → Option ((Nat ⊕ Nat) × mH)} (hrc_X19_says : ∀ {l : Launch} {r0 : Nat} (h : mH) {o : (Nat ⊕ Nat) × mH}, rc_X19_says r0 h = some o → XT G l (mi_X19_says d) [.ref r0] h (xoA "StrangerMarket$Fault" o.1) o.2) {o : (Nat ⊕ Nat) × mH} (hE : xEndT G C [] (xoA "StrangerMarket$Fault" o.1) o.2) (r0 : Nat) (h : mH) (H : f_X19_says_b22 rc_X19_and rc_X19_bracket rc_X19_or rc_X19_says r0 h = some o) : X G C (mi_X19_says (d + 1)) 22 [(0, .ref r0)] [] h := by
  unfold f_X19_says_b22 at H
  refine x_iconst (0 : Int32) dX19_says_22 ic_0 ?_
  exact t_X19_says_b23 hrc_X19_and hrc_X19_bracket hrc_X19_or hrc_X19_says hE _ _ _ H
def fb_X19_says (rc_X19_and : Nat → mH → Option ((Nat ⊕ Nat) × mH)) (rc_X19_bracket : Nat → mH → Option ((Nat ⊕ Nat) × mH)) (rc_X19_or : Nat → mH → Option ((Nat ⊕ Nat) × mH)) (rc_X19_says : Nat → mH → Option ((Nat ⊕ Nat) × mH)) (r0 : Nat) (h : mH) : Option ((Nat ⊕ Nat) × mH) := (gFi [7] 4 h r0).bind fun v1 => if v1 = (6 : Int32) then (gFi [7] 7 h r0).bind fun v45 => if v45 = (40 : Int32) then f_X19_says_b23 rc_X19_and rc_X19_bracket rc_X19_or rc_X19_says r0 (1 : Int32) h else f_X19_says_b22 rc_X19_and rc_X19_bracket rc_X19_or rc_X19_says r0 h else f_X19_says_b22 rc_X19_and rc_X19_bracket rc_X19_or rc_X19_says r0 h
theorem tb_X19_says {G : xG} (C0 : xC) {d : Nat} {rc_X19_and : Nat → mH → Option ((Nat ⊕ Nat) × mH)} (hrc_X19_and : ∀ {l : Launch} {r0 : Nat} (h : mH) {o : (Nat ⊕ Nat) × mH}, rc_X19_and r0 h = some o → XT G l (mi_X19_and d) [.ref r0] h (xoA "StrangerMarket$Fault" o.1) o.2) {rc_X19_bracket : Nat → mH → Option ((Nat ⊕ Nat) × mH)} (hrc_X19_bracket : ∀ {l : Launch} {r0 : Nat} (h : mH) {o : (Nat ⊕ Nat) × mH}, rc_X19_bracket r0 h = some o → XT G l (mi_X19_bracket d) [.ref r0] h (xoA "StrangerMarket$Fault" o.1) o.2) {rc_X19_or : Nat → mH → Option ((Nat ⊕ Nat) × mH)} (hrc_X19_or : ∀ {l : Launch} {r0 : Nat} (h : mH) {o : (Nat ⊕ Nat) × mH}, rc_X19_or r0 h = some o → XT G l (mi_X19_or d) [.ref r0] h (xoA "StrangerMarket$Fault" o.1) o.2) {rc_X19_says : Nat → mH → Option ((Nat ⊕ Nat) × mH)} (hrc_X19_says : ∀ {l : Launch} {r0 : Nat} (h : mH) {o : (Nat ⊕ Nat) × mH}, rc_X19_says r0 h = some o → XT G l (mi_X19_says d) [.ref r0] h (xoA "StrangerMarket$Fault" o.1) o.2) {l : Launch} {r0 : Nat} (h : mH) {o : (Nat ⊕ Nat) × mH} (H : fb_X19_says rc_X19_and rc_X19_bracket rc_X19_or rc_X19_says r0 h = some o) : XT G l (mi_X19_says (d + 1)) [.ref r0] h (xoA "StrangerMarket$Fault" o.1) o.2 := by
  refine XT.of C0 (by first | decide | (dsimp only [mi_X19_and, mi_X19_bracket, mi_X19_or, mi_X19_says]; decide)) (Nat.le_of_ble_eq_true rfl) (fun C _ _ _ hE => ?_)
  show X G C (mi_X19_says (d + 1)) 0 [(0, .ref r0)] [] h
  unfold fb_X19_says at H
  refine x_aload_n 0 rfl dX19_says_0 ?_
  obtain ⟨v1, e1, H⟩ := ob H
  refine x_getf fg_X19_23 (gFi_spec e1) dX19_says_1 ?_
  refine x_bipush (6 : Int32) dX19_says_4 bi_6 ?_
  refine x_icmp_ne 22 dX19_says_6 (by first | decide | (dsimp only [mi_X19_and, mi_X19_bracket, mi_X19_or, mi_X19_says]; decide)) (fun c2 => ?_) (fun c2 => ?_)
  · rw [if_neg c2] at H
    exact t_X19_says_b22 hrc_X19_and hrc_X19_bracket hrc_X19_or hrc_X19_says hE _ _ H
  · rw [if_pos c2] at H
    refine x_aload_n 0 rfl dX19_says_9 ?_
    obtain ⟨v45, e45, H⟩ := ob H
    refine x_getf fg_X19_64 (gFi_spec e45) dX19_says_10 ?_
    refine x_bipush (40 : Int32) dX19_says_13 bi_40 ?_
    refine x_icmp_ne 22 dX19_says_15 (by first | decide | (dsimp only [mi_X19_and, mi_X19_bracket, mi_X19_or, mi_X19_says]; decide)) (fun c46 => ?_) (fun c46 => ?_)
    · rw [if_neg c46] at H
      exact t_X19_says_b22 hrc_X19_and hrc_X19_bracket hrc_X19_or hrc_X19_says hE _ _ H
    · rw [if_pos c46] at H
      refine x_iconst (1 : Int32) dX19_says_18 ic_1 ?_
      refine x_goto (tgt := 23) dX19_says_19 (by first | decide | (dsimp only [mi_X19_and, mi_X19_bracket, mi_X19_or, mi_X19_says]; decide)) ?_
      exact t_X19_says_b23 hrc_X19_and hrc_X19_bracket hrc_X19_or hrc_X19_says hE _ _ _ H
def fg_SENT : Nat → Nat → Nat → mH → Option ((Nat ⊕ Nat) × mH)
  | 0, _, _, _ => none
  | d + 1, t, r0, h => if t = 0 then fb_X19_and (fg_SENT d 0) (fg_SENT d 1) (fg_SENT d 2) (fg_SENT d 3) r0 h else if t = 1 then fb_X19_bracket (fg_SENT d 0) (fg_SENT d 1) (fg_SENT d 2) (fg_SENT d 3) r0 h else if t = 2 then fb_X19_or (fg_SENT d 0) (fg_SENT d 1) (fg_SENT d 2) (fg_SENT d 3) r0 h else if t = 3 then fb_X19_says (fg_SENT d 0) (fg_SENT d 1) (fg_SENT d 2) (fg_SENT d 3) r0 h else none
theorem tg_SENT {G : xG} (C0 : xC) : ∀ (d : Nat), (∀ {l : Launch} {r0 : Nat} (h : mH) {o : (Nat ⊕ Nat) × mH}, fg_SENT d 0 r0 h = some o → XT G l (mi_X19_and d) [.ref r0] h (xoA "StrangerMarket$Fault" o.1) o.2) ∧ (∀ {l : Launch} {r0 : Nat} (h : mH) {o : (Nat ⊕ Nat) × mH}, fg_SENT d 1 r0 h = some o → XT G l (mi_X19_bracket d) [.ref r0] h (xoA "StrangerMarket$Fault" o.1) o.2) ∧ (∀ {l : Launch} {r0 : Nat} (h : mH) {o : (Nat ⊕ Nat) × mH}, fg_SENT d 2 r0 h = some o → XT G l (mi_X19_or d) [.ref r0] h (xoA "StrangerMarket$Fault" o.1) o.2) ∧ (∀ {l : Launch} {r0 : Nat} (h : mH) {o : (Nat ⊕ Nat) × mH}, fg_SENT d 3 r0 h = some o → XT G l (mi_X19_says d) [.ref r0] h (xoA "StrangerMarket$Fault" o.1) o.2) := by
  intro d
  induction d with
  | zero => exact ⟨(by intro l r0 h o H; exact (nomatch (show (none : Option ((Nat ⊕ Nat) × mH)) = some o from H))), (by intro l r0 h o H; exact (nomatch (show (none : Option ((Nat ⊕ Nat) × mH)) = some o from H))), (by intro l r0 h o H; exact (nomatch (show (none : Option ((Nat ⊕ Nat) × mH)) = some o from H))), (by intro l r0 h o H; exact (nomatch (show (none : Option ((Nat ⊕ Nat) × mH)) = some o from H)))⟩
  | succ d ih =>
    obtain ⟨i0, i1, i2, i3⟩ := ih
    exact ⟨by intro l r0 h o H; exact tb_X19_and C0 i0 i1 i2 i3 h H, by intro l r0 h o H; exact tb_X19_bracket C0 i0 i1 i2 i3 h H, by intro l r0 h o H; exact tb_X19_or C0 i0 i1 i2 i3 h H, by intro l r0 h o H; exact tb_X19_says C0 i0 i1 i2 i3 h H⟩
def f_X19_and (d : Nat) (r0 : Nat) (h : mH) : Option ((Nat ⊕ Nat) × mH) := fg_SENT d 0 r0 h
theorem t_X19_and {G : xG} (C0 : xC) (d : Nat) : ∀ {l : Launch} {r0 : Nat} (h : mH) {o : (Nat ⊕ Nat) × mH}, f_X19_and d r0 h = some o → XT G l (mi_X19_and d) [.ref r0] h (xoA "StrangerMarket$Fault" o.1) o.2 := by
  intro l r0 h o H
  exact (tg_SENT C0 d).1 h H
def f_X19_bracket (d : Nat) (r0 : Nat) (h : mH) : Option ((Nat ⊕ Nat) × mH) := fg_SENT d 1 r0 h
theorem t_X19_bracket {G : xG} (C0 : xC) (d : Nat) : ∀ {l : Launch} {r0 : Nat} (h : mH) {o : (Nat ⊕ Nat) × mH}, f_X19_bracket d r0 h = some o → XT G l (mi_X19_bracket d) [.ref r0] h (xoA "StrangerMarket$Fault" o.1) o.2 := by
  intro l r0 h o H
  exact (tg_SENT C0 d).2.1 h H
def f_X19_or (d : Nat) (r0 : Nat) (h : mH) : Option ((Nat ⊕ Nat) × mH) := fg_SENT d 2 r0 h
theorem t_X19_or {G : xG} (C0 : xC) (d : Nat) : ∀ {l : Launch} {r0 : Nat} (h : mH) {o : (Nat ⊕ Nat) × mH}, f_X19_or d r0 h = some o → XT G l (mi_X19_or d) [.ref r0] h (xoA "StrangerMarket$Fault" o.1) o.2 := by
  intro l r0 h o H
  exact (tg_SENT C0 d).2.2.1 h H
def f_X19_says (d : Nat) (r0 : Nat) (h : mH) : Option ((Nat ⊕ Nat) × mH) := fg_SENT d 3 r0 h
theorem t_X19_says {G : xG} (C0 : xC) (d : Nat) : ∀ {l : Launch} {r0 : Nat} (h : mH) {o : (Nat ⊕ Nat) × mH}, f_X19_says d r0 h = some o → XT G l (mi_X19_says d) [.ref r0] h (xoA "StrangerMarket$Fault" o.1) o.2 := by
  intro l r0 h o H
  exact (tg_SENT C0 d).2.2.2 h H
