set_option maxRecDepth 100000
set_option maxHeartbeats 4000000
abbrev mi_X1_isIn : xM := (cX1_isIn, yX1_isIn, 3, some .boolean, 1)
theorem md_X1_isIn : xMD mi_X1_isIn 3 := ⟨by decide, by decide, by decide +kernel⟩
def f_X1_isIn (x0 : Int32) (x1 : Int32) (x2 : Int32) (h : mH) : Option (Int32 × mH) := if x0 < x1 then some ((0 : Int32), h) else if x2 < x0 then some ((0 : Int32), h) else some ((1 : Int32), h)
theorem t_X1_isIn {G : xG} (C0 : xC) {l : Launch} {x0 : Int32} {x1 : Int32} {x2 : Int32} (h : mH) {o : Int32 × mH} (H : f_X1_isIn x0 x1 x2 h = some o) : XR G l mi_X1_isIn [.int x0, .int x1, .int x2] h (some (.int o.1)) o.2 := by
  refine XR.of C0 (by decide) (Nat.le_of_ble_eq_true rfl) (fun C _ _ _ hE => ?_)
  show X G C mi_X1_isIn 0 [(0, .int x0), (1, .int x1), (2, .int x2)] [] h
  unfold f_X1_isIn at H
  refine x_iload_n 0 rfl dX1_isIn_0 ?_
  refine x_iload_n 1 rfl dX1_isIn_1 ?_
  refine x_icmp_lt 14 dX1_isIn_2 (by decide) (fun c1 => ?_) (fun c1 => ?_)
  · rw [if_pos c1] at H
    refine x_iconst (0 : Int32) dX1_isIn_14 ic_0 ?_
    obtain rfl := Option.some.inj H
    exact x_iret hE rfl rfl dX1_isIn_15
  · rw [if_neg c1] at H
    refine x_iload_n 0 rfl dX1_isIn_5 ?_
    refine x_iload_n 2 rfl dX1_isIn_6 ?_
    refine x_icmp_gt 14 dX1_isIn_7 (by decide) (fun c2 => ?_) (fun c2 => ?_)
    · rw [if_pos c2] at H
      refine x_iconst (0 : Int32) dX1_isIn_14 ic_0 ?_
      obtain rfl := Option.some.inj H
      exact x_iret hE rfl rfl dX1_isIn_15
    · rw [if_neg c2] at H
      refine x_iconst (1 : Int32) dX1_isIn_10 ic_1 ?_
      refine x_goto (tgt := 15) dX1_isIn_11 (by decide) ?_
      obtain rfl := Option.some.inj H
      exact x_iret hE rfl rfl dX1_isIn_15
abbrev mi_J2_size : xM := (cJ2_size, yJ2_size, 1, some .int, 1)
theorem md_J2_size : xMD mi_J2_size 0 := ⟨by decide, by decide, by decide +kernel⟩
def f_J2_size (r0 : Nat) (h : mH) : Option (Int32 × mH) := (gFi [21] 2 h r0).bind fun v1 => some (v1, h)
theorem t_J2_size {G : xG} (C0 : xC) {l : Launch} {r0 : Nat} (h : mH) {o : Int32 × mH} (H : f_J2_size r0 h = some o) : XR G l mi_J2_size [.ref r0] h (some (.int o.1)) o.2 := by
  refine XR.of C0 (by decide) (Nat.le_of_ble_eq_true rfl) (fun C _ _ _ hE => ?_)
  show X G C mi_J2_size 0 [(0, .ref r0)] [] h
  unfold f_J2_size at H
  refine x_aload_n 0 rfl dJ2_size_0 ?_
  obtain ⟨v1, e1, H⟩ := ob H
  refine x_getf fg_J2_48 (gFi_spec e1) dJ2_size_1 ?_
  obtain rfl := Option.some.inj H
  exact x_iret hE rfl rfl dJ2_size_4
abbrev mi_X2_isPerson : xM := (cX2_isPerson, yX2_isPerson, 2, some .boolean, 2)
theorem md_X2_isPerson : xMD mi_X2_isPerson 1 := ⟨by decide, by decide, by decide +kernel⟩
def f_X2_isPerson (r0 : Nat) (x1 : Int32) (h : mH) : Option (Int32 × mH) := (gFr [1] 4 h r0).bind fun v1 => if gC h v1 = 21 then bR (f_J2_size v1  h) fun a2 g2 => bR (f_X1_isIn x1 (0 : Int32) (a2 - (1 : Int32)) g2) fun a3 g3 => rZ a3 g3 else none
theorem t_X2_isPerson {G : xG} (C0 : xC) {l : Launch} {r0 : Nat} {x1 : Int32} (h : mH) {o : Int32 × mH} (H : f_X2_isPerson r0 x1 h = some o) : XR G l mi_X2_isPerson [.ref r0, .int x1] h (some (.int o.1)) o.2 := by
  refine XR.of C0 (by decide) (Nat.le_of_ble_eq_true rfl) (fun C _ _ _ hE => ?_)
  show X G C mi_X2_isPerson 0 [(0, .ref r0), (1, .int x1)] [] h
  unfold f_X2_isPerson at H
  refine x_iload_n 1 rfl dX2_isPerson_0 ?_
  refine x_iconst (0 : Int32) dX2_isPerson_1 ic_0 ?_
  refine x_aload_n 0 rfl dX2_isPerson_2 ?_
  obtain ⟨v1, e1, H⟩ := ob H
  refine x_getf fg_X2_19 (gFr_spec e1) dX2_isPerson_3 ?_
  obtain ⟨c2, H⟩ := oit H
  obtain ⟨a2, g2, e2, H⟩ := obR H
  refine x_callV (M' := mi_J2_size) (n := 0) (As := []) (t_J2_size C _ e2) c2 rfl rfl md_J2_size ⟨Nat.le_of_ble_eq_true rfl, Nat.le_of_ble_eq_true rfl⟩ q1116 q317 q318 q124 q319 rfl (Nat.le_of_ble_eq_true rfl) dX2_isPerson_6 ?_
  refine x_iconst (1 : Int32) dX2_isPerson_9 ic_1 ?_
  refine x_isub dX2_isPerson_10 ?_
  obtain ⟨a3, g3, e3, H⟩ := obR H
  refine x_callSN (M' := mi_X1_isIn) (n := 3) (As := [.int x1, .int (0 : Int32), .int (a2 - (1 : Int32))]) (t_X1_isIn C _ e3) md_X1_isIn ⟨Nat.le_of_ble_eq_true rfl, Nat.le_of_ble_eq_true rfl⟩ q1117 q921 q120 q922 rfl (Nat.le_of_ble_eq_true rfl) dX2_isPerson_11 ?_
  obtain ⟨c, rfl⟩ := rZ_spec H
  exact x_iret hE rfl c dX2_isPerson_14
abbrev mi_X1_isPerson : xM := (cX1_isPerson, yX1_isPerson, 2, some .boolean, 3)
theorem md_X1_isPerson : xMD mi_X1_isPerson 1 := ⟨by decide, by decide, by decide +kernel⟩
def f_X1_isPerson (r0 : Nat) (x1 : Int32) (h : mH) : Option (Int32 × mH) := (gFr [0] 3 h r0).bind fun v1 => if gC h v1 = 1 then bR (f_X2_isPerson v1 x1 h) fun a2 g2 => rZ a2 g2 else none
theorem t_X1_isPerson {G : xG} (C0 : xC) {l : Launch} {r0 : Nat} {x1 : Int32} (h : mH) {o : Int32 × mH} (H : f_X1_isPerson r0 x1 h = some o) : XR G l mi_X1_isPerson [.ref r0, .int x1] h (some (.int o.1)) o.2 := by
  refine XR.of C0 (by decide) (Nat.le_of_ble_eq_true rfl) (fun C _ _ _ hE => ?_)
  show X G C mi_X1_isPerson 0 [(0, .ref r0), (1, .int x1)] [] h
  unfold f_X1_isPerson at H
  refine x_aload_n 0 rfl dX1_isPerson_0 ?_
  obtain ⟨v1, e1, H⟩ := ob H
  refine x_getf fg_X1_25 (gFr_spec e1) dX1_isPerson_1 ?_
  refine x_iload_n 1 rfl dX1_isPerson_4 ?_
  obtain ⟨c2, H⟩ := oit H
  obtain ⟨a2, g2, e2, H⟩ := obR H
  refine x_callV (M' := mi_X2_isPerson) (n := 1) (As := [.int x1]) (t_X2_isPerson C _ e2) c2 rfl rfl md_X2_isPerson ⟨Nat.le_of_ble_eq_true rfl, Nat.le_of_ble_eq_true rfl⟩ q1112 q1113 q1114 q121 q1115 rfl (Nat.le_of_ble_eq_true rfl) dX1_isPerson_5 ?_
  obtain ⟨c, rfl⟩ := rZ_spec H
  exact x_iret hE rfl c dX1_isPerson_8
abbrev mi_X1_need : xM := (cX1_need, yX1_need, 1, none, 9)
theorem md_X1_need : xMD mi_X1_need 1 := ⟨by decide, by decide, by decide +kernel⟩
def f_X1_need (x0 : Int32) (h : mH) : Option ((Unit ⊕ Nat) × mH) := if x0 = 0 then some (.inr h.2.1, xjk h) else some (.inl (), h)
theorem t_X1_need {G : xG} (C0 : xC) {l : Launch} {x0 : Int32} (h : mH) {o : (Unit ⊕ Nat) × mH} (H : f_X1_need x0 h = some o) : XT G l mi_X1_need [.int x0] h (xoU "java/util/NoSuchElementException" o.1) o.2 := by
  refine XT.of C0 (by decide) (Nat.le_of_ble_eq_true rfl) (fun C _ _ _ hE => ?_)
  show X G C mi_X1_need 0 [(0, .int x0)] [] h
  unfold f_X1_need at H
  refine x_iload_n 0 rfl dX1_need_0 ?_
  refine x_if_ne 12 dX1_need_1 (by decide) (fun c1 => ?_) (fun c1 => ?_)
  · rw [if_neg c1] at H
    obtain rfl := Option.some.inj H
    exact x_vretT hE rfl dX1_need_12
  · rw [if_pos c1] at H
    obtain rfl := Option.some.inj H
    exact x_thr0 hE rfl (by decide) q1860 q147 nse_at (Nat.le_of_ble_eq_true rfl) dX1_need_4 dX1_need_7 dX1_need_8 dX1_need_11
abbrev mi_J5_checkIndex : xM := (cJ5_checkIndex, yJ5_checkIndex, 3, some .int, 1)
theorem md_J5_checkIndex : xMD mi_J5_checkIndex 3 := ⟨by decide, by decide, by decide +kernel⟩
def f_J5_checkIndex_b9 (x0 : Int32) (x1 : Int32) (r2 : Nat) (h : mH) : Option (Int32 × mH) := none
theorem t_J5_checkIndex_b9 {G : xG} {C : xC} {o : Int32 × mH} (hE : xEnd G C (some (.int o.1)) o.2) (x0 : Int32) (x1 : Int32) (r2 : Nat) (h : mH) (H : f_J5_checkIndex_b9 x0 x1 r2 h = some o) : X G C mi_J5_checkIndex 9 [(0, .int x0), (1, .int x1), (2, .ref r2)] [] h := by
  unfold f_J5_checkIndex_b9 at H
  refine x_aload_n 2 rfl dJ5_checkIndex_9 ?_
  refine x_iload_n 0 rfl dJ5_checkIndex_10 ?_
  refine x_iload_n 1 rfl dJ5_checkIndex_11 ?_
  exact nomatch H
def f_J5_checkIndex (x0 : Int32) (x1 : Int32) (r2 : Nat) (h : mH) : Option (Int32 × mH) := if x0 < 0 then f_J5_checkIndex_b9 x0 x1 r2 h else if x0 < x1 then some (x0, h) else f_J5_checkIndex_b9 x0 x1 r2 h
theorem t_J5_checkIndex {G : xG} (C0 : xC) {l : Launch} {x0 : Int32} {x1 : Int32} {r2 : Nat} (h : mH) {o : Int32 × mH} (H : f_J5_checkIndex x0 x1 r2 h = some o) : XR G l mi_J5_checkIndex [.int x0, .int x1, .ref r2] h (some (.int o.1)) o.2 := by
  refine XR.of C0 (by decide) (Nat.le_of_ble_eq_true rfl) (fun C _ _ _ hE => ?_)
  show X G C mi_J5_checkIndex 0 [(0, .int x0), (1, .int x1), (2, .ref r2)] [] h
  unfold f_J5_checkIndex at H
  refine x_iload_n 0 rfl dJ5_checkIndex_0 ?_
  refine x_if_lt 9 dJ5_checkIndex_1 (by decide) (fun c1 => ?_) (fun c1 => ?_)
  · rw [if_pos c1] at H
    exact t_J5_checkIndex_b9 hE _ _ _ _ H
  · rw [if_neg c1] at H
    refine x_iload_n 0 rfl dJ5_checkIndex_4 ?_
    refine x_iload_n 1 rfl dJ5_checkIndex_5 ?_
    refine x_icmp_lt 16 dJ5_checkIndex_6 (by decide) (fun c2 => ?_) (fun c2 => ?_)
    · rw [if_pos c2] at H
      refine x_iload_n 0 rfl dJ5_checkIndex_16 ?_
      obtain rfl := Option.some.inj H
      exact x_iret hE rfl rfl dJ5_checkIndex_17
    · rw [if_neg c2] at H
      exact t_J5_checkIndex_b9 hE _ _ _ _ H
abbrev mi_J4_checkIndex : xM := (cJ4_checkIndex, yJ4_checkIndex, 2, some .int, 2)
theorem md_J4_checkIndex : xMD mi_J4_checkIndex 2 := ⟨by decide, by decide, by decide +kernel⟩
def f_J4_checkIndex (x0 : Int32) (x1 : Int32) (h : mH) : Option (Int32 × mH) := bR (f_J5_checkIndex x0 x1 0 h) fun a1 g1 => some (a1, g1)
theorem t_J4_checkIndex {G : xG} (C0 : xC) {l : Launch} {x0 : Int32} {x1 : Int32} (h : mH) {o : Int32 × mH} (H : f_J4_checkIndex x0 x1 h = some o) : XR G l mi_J4_checkIndex [.int x0, .int x1] h (some (.int o.1)) o.2 := by
  refine XR.of C0 (by decide) (Nat.le_of_ble_eq_true rfl) (fun C _ _ _ hE => ?_)
  show X G C mi_J4_checkIndex 0 [(0, .int x0), (1, .int x1)] [] h
  unfold f_J4_checkIndex at H
  refine x_iload_n 0 rfl dJ4_checkIndex_0 ?_
  refine x_iload_n 1 rfl dJ4_checkIndex_1 ?_
  refine x_null dJ4_checkIndex_2 ?_
  obtain ⟨a1, g1, e1, H⟩ := obR H
  refine x_callS (M' := mi_J5_checkIndex) (n := 3) (As := [.int x0, .int x1, .ref 0]) (t_J5_checkIndex C _ e1) md_J5_checkIndex ⟨Nat.le_of_ble_eq_true rfl, Nat.le_of_ble_eq_true rfl⟩ q331 q332 q128 q333 rfl (Nat.le_of_ble_eq_true rfl) dJ4_checkIndex_3 ?_
  obtain rfl := Option.some.inj H
  exact x_iret hE rfl rfl dJ4_checkIndex_6
abbrev mi_J2_elementData : xM := (cJ2_elementData, yJ2_elementData, 2, some (.object "java/lang/Object"), 1)
theorem md_J2_elementData : xMD mi_J2_elementData 1 := ⟨by decide, by decide, by decide +kernel⟩
def f_J2_elementData (r0 : Nat) (x1 : Int32) (h : mH) : Option (Nat × mH) := (gFr [21] 1 h r0).bind fun v1 => (aR h v1 x1).bind fun v2 => some (v2, h)
theorem t_J2_elementData {G : xG} (C0 : xC) {l : Launch} {r0 : Nat} {x1 : Int32} (h : mH) {o : Nat × mH} (H : f_J2_elementData r0 x1 h = some o) : XR G l mi_J2_elementData [.ref r0, .int x1] h (some (.ref o.1)) o.2 := by
  refine XR.of C0 (by decide) (Nat.le_of_ble_eq_true rfl) (fun C _ _ _ hE => ?_)
  show X G C mi_J2_elementData 0 [(0, .ref r0), (1, .int x1)] [] h
  unfold f_J2_elementData at H
  refine x_aload_n 0 rfl dJ2_elementData_0 ?_
  obtain ⟨v1, e1, H⟩ := ob H
  refine x_getf fg_J2_9 (gFr_spec e1) dJ2_elementData_1 ?_
  refine x_iload_n 1 rfl dJ2_elementData_4 ?_
  obtain ⟨v2, e2, H⟩ := ob H
  refine x_aald e2 dJ2_elementData_5 ?_
  obtain rfl := Option.some.inj H
  exact x_aret hE rfl (by first | exact Or.inl ⟨_, rfl⟩ | exact Or.inr ⟨_, rfl⟩) dJ2_elementData_6
abbrev mi_J2_get : xM := (cJ2_get, yJ2_get, 2, some (.object "java/lang/Object"), 3)
theorem md_J2_get : xMD mi_J2_get 1 := ⟨by decide, by decide, by decide +kernel⟩
def f_J2_get (r0 : Nat) (x1 : Int32) (h : mH) : Option (Nat × mH) := (gFi [21] 2 h r0).bind fun v1 => bR (f_J4_checkIndex x1 v1 h) fun a2 g2 => if gC g2 r0 = 21 then bR (f_J2_elementData r0 x1 g2) fun a3 g3 => some (a3, g3) else none
theorem t_J2_get {G : xG} (C0 : xC) {l : Launch} {r0 : Nat} {x1 : Int32} (h : mH) {o : Nat × mH} (H : f_J2_get r0 x1 h = some o) : XR G l mi_J2_get [.ref r0, .int x1] h (some (.ref o.1)) o.2 := by
  refine XR.of C0 (by decide) (Nat.le_of_ble_eq_true rfl) (fun C _ _ _ hE => ?_)
  show X G C mi_J2_get 0 [(0, .ref r0), (1, .int x1)] [] h
  unfold f_J2_get at H
  refine x_iload_n 1 rfl dJ2_get_0 ?_
  refine x_aload_n 0 rfl dJ2_get_1 ?_
  obtain ⟨v1, e1, H⟩ := ob H
  refine x_getf fg_J2_48 (gFi_spec e1) dJ2_get_2 ?_
  obtain ⟨a2, g2, e2, H⟩ := obR H
  refine x_callS (M' := mi_J4_checkIndex) (n := 2) (As := [.int x1, .int v1]) (t_J4_checkIndex C _ e2) md_J4_checkIndex ⟨Nat.le_of_ble_eq_true rfl, Nat.le_of_ble_eq_true rfl⟩ q328 q329 q127 q330 rfl (Nat.le_of_ble_eq_true rfl) dJ2_get_5 ?_
  refine x_pop dJ2_get_8 rfl ?_
  refine x_aload_n 0 rfl dJ2_get_9 ?_
  refine x_iload_n 1 rfl dJ2_get_10 ?_
  obtain ⟨c3, H⟩ := oit H
  obtain ⟨a3, g3, e3, H⟩ := obR H
  refine x_callV (M' := mi_J2_elementData) (n := 1) (As := [.int x1]) (t_J2_elementData C _ e3) c3 rfl rfl md_J2_elementData ⟨Nat.le_of_ble_eq_true rfl, Nat.le_of_ble_eq_true rfl⟩ q334 q335 q336 q124 q337 rfl (Nat.le_of_ble_eq_true rfl) dJ2_get_11 ?_
  obtain rfl := Option.some.inj H
  exact x_aret hE rfl (by first | exact Or.inl ⟨_, rfl⟩ | exact Or.inr ⟨_, rfl⟩) dJ2_get_14
abbrev mi_X3_person : xM := (cX3_person, yX3_person, 2, some (.object "StrangerMarket$Person"), 4)
theorem md_X3_person : xMD mi_X3_person 1 := ⟨by decide, by decide, by decide +kernel⟩
def f_X3_person (r0 : Nat) (x1 : Int32) (h : mH) : Option (Nat × mH) := (gFr [2] 0 h r0).bind fun v1 => (gFr [1] 4 h v1).bind fun v2 => if gC h v2 = 21 then bR (f_J2_get v2 x1 h) fun a3 g3 => if a3 = 0 ∨ gC g3 a3 ∈ [10] then some (a3, g3) else none else none
theorem t_X3_person {G : xG} (C0 : xC) {l : Launch} {r0 : Nat} {x1 : Int32} (h : mH) {o : Nat × mH} (H : f_X3_person r0 x1 h = some o) : XR G l mi_X3_person [.ref r0, .int x1] h (some (.ref o.1)) o.2 := by
  refine XR.of C0 (by decide) (Nat.le_of_ble_eq_true rfl) (fun C _ _ _ hE => ?_)
  show X G C mi_X3_person 0 [(0, .ref r0), (1, .int x1)] [] h
  unfold f_X3_person at H
  refine x_aload_n 0 rfl dX3_person_0 ?_
  obtain ⟨v1, e1, H⟩ := ob H
  refine x_getf fg_X3_30 (gFr_spec e1) dX3_person_1 ?_
  obtain ⟨v2, e2, H⟩ := ob H
  refine x_getf fg_X3_84 (gFr_spec e2) dX3_person_4 ?_
  refine x_iload_n 1 rfl dX3_person_7 ?_
  obtain ⟨c3, H⟩ := oit H
  obtain ⟨a3, g3, e3, H⟩ := obR H
  refine x_callV (M' := mi_J2_get) (n := 1) (As := [.int x1]) (t_J2_get C _ e3) c3 rfl rfl md_J2_get ⟨Nat.le_of_ble_eq_true rfl, Nat.le_of_ble_eq_true rfl⟩ q324 q325 q326 q124 q327 rfl (Nat.le_of_ble_eq_true rfl) dX3_person_8 ?_
  obtain ⟨c4, H⟩ := oit H
  refine x_cast cs_StrangerMarket_Person q338 c4 dX3_person_11 ?_
  obtain rfl := Option.some.inj H
  exact x_aret hE rfl (by first | exact Or.inl ⟨_, rfl⟩ | exact Or.inr ⟨_, rfl⟩) dX3_person_14
abbrev mi_X3_known : xM := (cX3_known, yX3_known, 2, some .int, 5)
theorem md_X3_known : xMD mi_X3_known 1 := ⟨by decide, by decide, by decide +kernel⟩
def f_X3_known (r0 : Nat) (x1 : Int32) (h : mH) : Option (Int32 × mH) := if gC h r0 = 2 then bR (f_X3_person r0 x1 h) fun a1 g1 => (gFi [10] 2 g1 a1).bind fun v2 => (gFr [2] 8 g1 r0).bind fun v3 => (aI .int g1 v3 x1).bind fun v4 => some ((v2 ||| v4), g1) else none
theorem t_X3_known {G : xG} (C0 : xC) {l : Launch} {r0 : Nat} {x1 : Int32} (h : mH) {o : Int32 × mH} (H : f_X3_known r0 x1 h = some o) : XR G l mi_X3_known [.ref r0, .int x1] h (some (.int o.1)) o.2 := by
  refine XR.of C0 (by decide) (Nat.le_of_ble_eq_true rfl) (fun C _ _ _ hE => ?_)
  show X G C mi_X3_known 0 [(0, .ref r0), (1, .int x1)] [] h
  unfold f_X3_known at H
  refine x_aload_n 0 rfl dX3_known_0 ?_
  refine x_iload_n 1 rfl dX3_known_1 ?_
  obtain ⟨c1, H⟩ := oit H
  obtain ⟨a1, g1, e1, H⟩ := obR H
  refine x_callV (M' := mi_X3_person) (n := 1) (As := [.int x1]) (t_X3_person C _ e1) c1 rfl rfl md_X3_person ⟨Nat.le_of_ble_eq_true rfl, Nat.le_of_ble_eq_true rfl⟩ q320 q321 q322 q125 q323 rfl (Nat.le_of_ble_eq_true rfl) dX3_known_2 ?_
  obtain ⟨v2, e2, H⟩ := ob H
  refine x_getf fg_X3_104 (gFi_spec e2) dX3_known_5 ?_
  refine x_aload_n 0 rfl dX3_known_8 ?_
  obtain ⟨v3, e3, H⟩ := ob H
  refine x_getf fg_X3_18 (gFr_spec e3) dX3_known_9 ?_
  refine x_iload_n 1 rfl dX3_known_12 ?_
  obtain ⟨v4, e4, H⟩ := ob H
  refine x_iald e4 dX3_known_13 ?_
  refine x_ior dX3_known_14 ?_
  obtain rfl := Option.some.inj H
  exact x_iret hE rfl rfl dX3_known_15
abbrev mi_X1_isOf : xM := (cX1_isOf, yX1_isOf, 2, some .boolean, 1)
theorem md_X1_isOf : xMD mi_X1_isOf 2 := ⟨by decide, by decide, by decide +kernel⟩
def f_X1_isOf (x0 : Int32) (x1 : Int32) (h : mH) : Option (Int32 × mH) := if ((x0 >>> (x1 &&& 31)) &&& (1 : Int32)) = (1 : Int32) then some ((1 : Int32), h) else some ((0 : Int32), h)
theorem t_X1_isOf {G : xG} (C0 : xC) {l : Launch} {x0 : Int32} {x1 : Int32} (h : mH) {o : Int32 × mH} (H : f_X1_isOf x0 x1 h = some o) : XR G l mi_X1_isOf [.int x0, .int x1] h (some (.int o.1)) o.2 := by
  refine XR.of C0 (by decide) (Nat.le_of_ble_eq_true rfl) (fun C _ _ _ hE => ?_)
  show X G C mi_X1_isOf 0 [(0, .int x0), (1, .int x1)] [] h
  unfold f_X1_isOf at H
  refine x_iload_n 0 rfl dX1_isOf_0 ?_
  refine x_iload_n 1 rfl dX1_isOf_1 ?_
  refine x_ishr dX1_isOf_2 ?_
  refine x_iconst (1 : Int32) dX1_isOf_3 ic_1 ?_
  refine x_iand dX1_isOf_4 ?_
  refine x_iconst (1 : Int32) dX1_isOf_5 ic_1 ?_
  refine x_icmp_ne 13 dX1_isOf_6 (by decide) (fun c1 => ?_) (fun c1 => ?_)
  · rw [if_neg c1] at H
    refine x_iconst (0 : Int32) dX1_isOf_13 ic_0 ?_
    obtain rfl := Option.some.inj H
    exact x_iret hE rfl rfl dX1_isOf_14
  · rw [if_pos c1] at H
    refine x_iconst (1 : Int32) dX1_isOf_9 ic_1 ?_
    refine x_goto (tgt := 14) dX1_isOf_10 (by decide) ?_
    obtain rfl := Option.some.inj H
    exact x_iret hE rfl rfl dX1_isOf_14
abbrev mi_X3_areFoes : xM := (cX3_areFoes, yX3_areFoes, 3, some .boolean, 5)
theorem md_X3_areFoes : xMD mi_X3_areFoes 2 := ⟨by decide, by decide, by decide +kernel⟩
def f_X3_areFoes (r0 : Nat) (x1 : Int32) (x2 : Int32) (h : mH) : Option (Int32 × mH) := if gC h r0 = 2 then bR (f_X3_person r0 x1 h) fun a1 g1 => (gFi [10] 3 g1 a1).bind fun v2 => bR (f_X1_isOf v2 x2 g1) fun a3 g3 => rZ a3 g3 else none
theorem t_X3_areFoes {G : xG} (C0 : xC) {l : Launch} {r0 : Nat} {x1 : Int32} {x2 : Int32} (h : mH) {o : Int32 × mH} (H : f_X3_areFoes r0 x1 x2 h = some o) : XR G l mi_X3_areFoes [.ref r0, .int x1, .int x2] h (some (.int o.1)) o.2 := by
  refine XR.of C0 (by decide) (Nat.le_of_ble_eq_true rfl) (fun C _ _ _ hE => ?_)
  show X G C mi_X3_areFoes 0 [(0, .ref r0), (1, .int x1), (2, .int x2)] [] h
  unfold f_X3_areFoes at H
  refine x_aload_n 0 rfl dX3_areFoes_0 ?_
  refine x_iload_n 1 rfl dX3_areFoes_1 ?_
  obtain ⟨c1, H⟩ := oit H
  obtain ⟨a1, g1, e1, H⟩ := obR H
  refine x_callV (M' := mi_X3_person) (n := 1) (As := [.int x1]) (t_X3_person C _ e1) c1 rfl rfl md_X3_person ⟨Nat.le_of_ble_eq_true rfl, Nat.le_of_ble_eq_true rfl⟩ q320 q321 q322 q125 q323 rfl (Nat.le_of_ble_eq_true rfl) dX3_areFoes_2 ?_
  obtain ⟨v2, e2, H⟩ := ob H
  refine x_getf fg_X3_115 (gFi_spec e2) dX3_areFoes_5 ?_
  refine x_iload_n 2 rfl dX3_areFoes_8 ?_
  obtain ⟨a3, g3, e3, H⟩ := obR H
  refine x_callSN (M' := mi_X1_isOf) (n := 2) (As := [.int v2, .int x2]) (t_X1_isOf C _ e3) md_X1_isOf ⟨Nat.le_of_ble_eq_true rfl, Nat.le_of_ble_eq_true rfl⟩ q1230 q1080 q120 q1081 rfl (Nat.le_of_ble_eq_true rfl) dX3_areFoes_9 ?_
  obtain ⟨c, rfl⟩ := rZ_spec H
  exact x_iret hE rfl c dX3_areFoes_12
abbrev mi_X3_know : xM := (cX3_know, yX3_know, 3, some .boolean, 6)
theorem md_X3_know : xMD mi_X3_know 2 := ⟨by decide, by decide, by decide +kernel⟩
def f_X3_know (r0 : Nat) (x1 : Int32) (x2 : Int32) (h : mH) : Option (Int32 × mH) := if gC h r0 = 2 then bR (f_X3_known r0 x1 h) fun a1 g1 => bR (f_X1_isOf a1 x2 g1) fun a2 g2 => rZ a2 g2 else none
theorem t_X3_know {G : xG} (C0 : xC) {l : Launch} {r0 : Nat} {x1 : Int32} {x2 : Int32} (h : mH) {o : Int32 × mH} (H : f_X3_know r0 x1 x2 h = some o) : XR G l mi_X3_know [.ref r0, .int x1, .int x2] h (some (.int o.1)) o.2 := by
  refine XR.of C0 (by decide) (Nat.le_of_ble_eq_true rfl) (fun C _ _ _ hE => ?_)
  show X G C mi_X3_know 0 [(0, .ref r0), (1, .int x1), (2, .int x2)] [] h
  unfold f_X3_know at H
  refine x_aload_n 0 rfl dX3_know_0 ?_
  refine x_iload_n 1 rfl dX3_know_1 ?_
  obtain ⟨c1, H⟩ := oit H
  obtain ⟨a1, g1, e1, H⟩ := obR H
  refine x_callV (M' := mi_X3_known) (n := 1) (As := [.int x1]) (t_X3_known C _ e1) c1 rfl rfl md_X3_known ⟨Nat.le_of_ble_eq_true rfl, Nat.le_of_ble_eq_true rfl⟩ q1239 q1240 q1241 q125 q1242 rfl (Nat.le_of_ble_eq_true rfl) dX3_know_2 ?_
  refine x_iload_n 2 rfl dX3_know_5 ?_
  obtain ⟨a2, g2, e2, H⟩ := obR H
  refine x_callSN (M' := mi_X1_isOf) (n := 2) (As := [.int a1, .int x2]) (t_X1_isOf C _ e2) md_X1_isOf ⟨Nat.le_of_ble_eq_true rfl, Nat.le_of_ble_eq_true rfl⟩ q1230 q1080 q120 q1081 rfl (Nat.le_of_ble_eq_true rfl) dX3_know_6 ?_
  obtain ⟨c, rfl⟩ := rZ_spec H
  exact x_iret hE rfl c dX3_know_9
abbrev mi_X3_may : xM := (cX3_may, yX3_may, 3, some .boolean, 7)
theorem md_X3_may : xMD mi_X3_may 2 := ⟨by decide, by decide, by decide +kernel⟩
def f_X3_may_b23 (h : mH) : Option (Int32 × mH) := some ((1 : Int32), h)
theorem t_X3_may_b23 {G : xG} {C : xC} {o : Int32 × mH} (hE : xEnd G C (some (.int o.1)) o.2) (h : mH) (H : f_X3_may_b23 h = some o) : X G C mi_X3_may 23 [] [] h := by
  unfold f_X3_may_b23 at H
  refine x_iconst (1 : Int32) dX3_may_23 ic_1 ?_
  refine x_goto (tgt := 28) dX3_may_24 (by decide) ?_
  obtain rfl := Option.some.inj H
  exact x_iret hE rfl rfl dX3_may_28
def f_X3_may (r0 : Nat) (x1 : Int32) (x2 : Int32) (h : mH) : Option (Int32 × mH) := if x1 = x2 then some ((0 : Int32), h) else if gC h r0 = 2 then bR (f_X3_know r0 x1 x2 h) fun a2 g2 => if a2 = 0 then f_X3_may_b23  g2 else if gC g2 r0 = 2 then bR (f_X3_areFoes r0 x1 x2 g2) fun a4 g4 => if a4 = 0 then some ((0 : Int32), g4) else f_X3_may_b23  g4 else none else none
theorem t_X3_may {G : xG} (C0 : xC) {l : Launch} {r0 : Nat} {x1 : Int32} {x2 : Int32} (h : mH) {o : Int32 × mH} (H : f_X3_may r0 x1 x2 h = some o) : XR G l mi_X3_may [.ref r0, .int x1, .int x2] h (some (.int o.1)) o.2 := by
  refine XR.of C0 (by decide) (Nat.le_of_ble_eq_true rfl) (fun C _ _ _ hE => ?_)
  show X G C mi_X3_may 0 [(0, .ref r0), (1, .int x1), (2, .int x2)] [] h
  unfold f_X3_may at H
  refine x_iload_n 1 rfl dX3_may_0 ?_
  refine x_iload_n 2 rfl dX3_may_1 ?_
  refine x_icmp_eq 27 dX3_may_2 (by decide) (fun c1 => ?_) (fun c1 => ?_)
  · rw [if_pos c1] at H
    refine x_iconst (0 : Int32) dX3_may_27 ic_0 ?_
    obtain rfl := Option.some.inj H
    exact x_iret hE rfl rfl dX3_may_28
  · rw [if_neg c1] at H
    refine x_aload_n 0 rfl dX3_may_5 ?_
    refine x_iload_n 1 rfl dX3_may_6 ?_
    refine x_iload_n 2 rfl dX3_may_7 ?_
    obtain ⟨c2, H⟩ := oit H
    obtain ⟨a2, g2, e2, H⟩ := obR H
    refine x_callV (M' := mi_X3_know) (n := 2) (As := [.int x1, .int x2]) (t_X3_know C _ e2) c2 rfl rfl md_X3_know ⟨Nat.le_of_ble_eq_true rfl, Nat.le_of_ble_eq_true rfl⟩ q1235 q1236 q1237 q125 q1238 rfl (Nat.le_of_ble_eq_true rfl) dX3_may_8 ?_
    refine x_if_eq 23 dX3_may_11 (by decide) (fun c3 => ?_) (fun c3 => ?_)
    · rw [if_pos c3] at H
      refine X.sub [] rfl ?_
      exact t_X3_may_b23 hE  _ H
    · rw [if_neg c3] at H
      refine x_aload_n 0 rfl dX3_may_14 ?_
      refine x_iload_n 1 rfl dX3_may_15 ?_
      refine x_iload_n 2 rfl dX3_may_16 ?_
      obtain ⟨c4, H⟩ := oit H
      obtain ⟨a4, g4, e4, H⟩ := obR H
      refine x_callV (M' := mi_X3_areFoes) (n := 2) (As := [.int x1, .int x2]) (t_X3_areFoes C _ e4) c4 rfl rfl md_X3_areFoes ⟨Nat.le_of_ble_eq_true rfl, Nat.le_of_ble_eq_true rfl⟩ q1243 q1244 q1245 q125 q1246 rfl (Nat.le_of_ble_eq_true rfl) dX3_may_17 ?_
      refine x_if_eq 27 dX3_may_20 (by decide) (fun c5 => ?_) (fun c5 => ?_)
      · rw [if_pos c5] at H
        refine x_iconst (0 : Int32) dX3_may_27 ic_0 ?_
        obtain rfl := Option.some.inj H
        exact x_iret hE rfl rfl dX3_may_28
      · rw [if_neg c5] at H
        refine X.sub [] rfl ?_
        exact t_X3_may_b23 hE  _ H
abbrev mi_X3_persons : xM := (cX3_persons, yX3_persons, 1, some .int, 2)
theorem md_X3_persons : xMD mi_X3_persons 0 := ⟨by decide, by decide, by decide +kernel⟩
def f_X3_persons (r0 : Nat) (h : mH) : Option (Int32 × mH) := (gFr [2] 0 h r0).bind fun v1 => (gFr [1] 4 h v1).bind fun v2 => if gC h v2 = 21 then bR (f_J2_size v2  h) fun a3 g3 => some (a3, g3) else none
theorem t_X3_persons {G : xG} (C0 : xC) {l : Launch} {r0 : Nat} (h : mH) {o : Int32 × mH} (H : f_X3_persons r0 h = some o) : XR G l mi_X3_persons [.ref r0] h (some (.int o.1)) o.2 := by
  refine XR.of C0 (by decide) (Nat.le_of_ble_eq_true rfl) (fun C _ _ _ hE => ?_)
  show X G C mi_X3_persons 0 [(0, .ref r0)] [] h
  unfold f_X3_persons at H
  refine x_aload_n 0 rfl dX3_persons_0 ?_
  obtain ⟨v1, e1, H⟩ := ob H
  refine x_getf fg_X3_30 (gFr_spec e1) dX3_persons_1 ?_
  obtain ⟨v2, e2, H⟩ := ob H
  refine x_getf fg_X3_84 (gFr_spec e2) dX3_persons_4 ?_
  obtain ⟨c3, H⟩ := oit H
  obtain ⟨a3, g3, e3, H⟩ := obR H
  refine x_callV (M' := mi_J2_size) (n := 0) (As := []) (t_J2_size C _ e3) c3 rfl rfl md_J2_size ⟨Nat.le_of_ble_eq_true rfl, Nat.le_of_ble_eq_true rfl⟩ q316 q317 q318 q124 q319 rfl (Nat.le_of_ble_eq_true rfl) dX3_persons_7 ?_
  obtain rfl := Option.some.inj H
  exact x_iret hE rfl rfl dX3_persons_10
abbrev mi_X3_mays : xM := (cX3_mays, yX3_mays, 4, some .int, 8)
theorem md_X3_mays : xMD mi_X3_mays 1 := ⟨by decide, by decide, by decide +kernel⟩
def f_X3_mays_b27 (kb : Nat → Int32 → Int32 → Int32 → mH → Option (Int32 × mH)) (r0 : Nat) (x1 : Int32) (x2 : Int32) (x3 : Int32) (h : mH) : Option (Int32 × mH) := kb r0 x1 x2 (x3 + (1 : Int32)) h
theorem t_X3_mays_b27 {G : xG} {C : xC} {o : Int32 × mH} (hE : xEnd G C (some (.int o.1)) o.2) {kb : Nat → Int32 → Int32 → Int32 → mH → Option (Int32 × mH)} (hkb : ∀ (r0 : Nat) (x1 : Int32) (x2 : Int32) (x3 : Int32) (h : mH), kb r0 x1 x2 x3 h = some o → X G C mi_X3_mays 4 [(0, .ref r0), (1, .int x1), (2, .int x2), (3, .int x3)] [] h) (r0 : Nat) (x1 : Int32) (x2 : Int32) (x3 : Int32) (h : mH) (H : f_X3_mays_b27 kb r0 x1 x2 x3 h = some o) : X G C mi_X3_mays 27 [(0, .ref r0), (1, .int x1), (2, .int x2), (3, .int x3)] [] h := by
  unfold f_X3_mays_b27 at H
  refine x_iinc 3 (x3 + (1 : Int32)) [1, 2, 3, 0] dX3_mays_27 rfl (ii_1 _) (by decide) rfl ?_
  refine x_goto (tgt := 4) dX3_mays_30 (by decide) ?_
  exact hkb _ _ _ _ _ H
def f_X3_mays_L4 : Nat → Nat → Int32 → Int32 → Int32 → mH → Option (Int32 × mH)
  | 0, _, _, _, _, _ => none
  | n + 1, r0, x1, x2, x3, h => if gC h r0 = 2 then bR (f_X3_persons r0  h) fun a1 g1 => if a1 ≤ x3 then some (x2, g1) else if gC g1 r0 = 2 then bR (f_X3_may r0 x1 x3 g1) fun a3 g3 => if a3 = 0 then f_X3_mays_b27 (f_X3_mays_L4 n) r0 x1 x2 x3 g3 else f_X3_mays_b27 (f_X3_mays_L4 n) r0 x1 (x2 ||| ((1 : Int32) <<< (x3 &&& 31))) x3 g3 else none else none
theorem t_X3_mays_L4 {G : xG} {C : xC} {o : Int32 × mH} (hE : xEnd G C (some (.int o.1)) o.2) : ∀ (n : Nat) (r0 : Nat) (x1 : Int32) (x2 : Int32) (x3 : Int32) (h : mH), f_X3_mays_L4 n r0 x1 x2 x3 h = some o → X G C mi_X3_mays 4 [(0, .ref r0), (1, .int x1), (2, .int x2), (3, .int x3)] [] h := by
  intro n
  induction n with
  | zero => intro r0 x1 x2 x3 h H; exact nomatch (show (none : Option (Int32 × mH)) = some o from H)
  | succ n ih =>
    intro r0 x1 x2 x3 h H
    rw [f_X3_mays_L4] at H
    refine x_iload_n 3 rfl dX3_mays_4 ?_
    refine x_aload_n 0 rfl dX3_mays_5 ?_
    obtain ⟨c1, H⟩ := oit H
    obtain ⟨a1, g1, e1, H⟩ := obR H
    refine x_callV (M' := mi_X3_persons) (n := 0) (As := []) (t_X3_persons C _ e1) c1 rfl rfl md_X3_persons ⟨Nat.le_of_ble_eq_true rfl, Nat.le_of_ble_eq_true rfl⟩ q312 q313 q314 q125 q315 rfl (Nat.le_of_ble_eq_true rfl) dX3_mays_6 ?_
    refine x_icmp_ge 33 dX3_mays_9 (by decide) (fun c2 => ?_) (fun c2 => ?_)
    · rw [if_pos c2] at H
      refine x_iload_n 2 rfl dX3_mays_33 ?_
      obtain rfl := Option.some.inj H
      exact x_iret hE rfl rfl dX3_mays_34
    · rw [if_neg c2] at H
      refine x_aload_n 0 rfl dX3_mays_12 ?_
      refine x_iload_n 1 rfl dX3_mays_13 ?_
      refine x_iload_n 3 rfl dX3_mays_14 ?_
      obtain ⟨c3, H⟩ := oit H
      obtain ⟨a3, g3, e3, H⟩ := obR H
      refine x_callV (M' := mi_X3_may) (n := 2) (As := [.int x1, .int x3]) (t_X3_may C _ e3) c3 rfl rfl md_X3_may ⟨Nat.le_of_ble_eq_true rfl, Nat.le_of_ble_eq_true rfl⟩ q1231 q1232 q1233 q125 q1234 rfl (Nat.le_of_ble_eq_true rfl) dX3_mays_15 ?_
      refine x_if_eq 27 dX3_mays_18 (by decide) (fun c4 => ?_) (fun c4 => ?_)
      · rw [if_pos c4] at H
        exact t_X3_mays_b27 hE ih _ _ _ _ _ H
      · rw [if_neg c4] at H
        refine x_iload_n 2 rfl dX3_mays_21 ?_
        refine x_iconst (1 : Int32) dX3_mays_22 ic_1 ?_
        refine x_iload_n 3 rfl dX3_mays_23 ?_
        refine x_ishl dX3_mays_24 ?_
        refine x_ior dX3_mays_25 ?_
        refine x_istore_n [1, 2, 0, 3] dX3_mays_26 (by decide) rfl ?_
        exact t_X3_mays_b27 hE ih _ _ _ _ _ H
def f_X3_mays (r0 : Nat) (x1 : Int32) (h : mH) : Option (Int32 × mH) := f_X3_mays_L4  xFu r0 x1 (0 : Int32) (0 : Int32) h
theorem t_X3_mays {G : xG} (C0 : xC) {l : Launch} {r0 : Nat} {x1 : Int32} (h : mH) {o : Int32 × mH} (H : f_X3_mays r0 x1 h = some o) : XR G l mi_X3_mays [.ref r0, .int x1] h (some (.int o.1)) o.2 := by
  refine XR.of C0 (by decide) (Nat.le_of_ble_eq_true rfl) (fun C _ _ _ hE => ?_)
  show X G C mi_X3_mays 0 [(0, .ref r0), (1, .int x1)] [] h
  unfold f_X3_mays at H
  refine x_iconst (0 : Int32) dX3_mays_0 ic_0 ?_
  refine x_istore_n [1, 2, 0] dX3_mays_1 (by decide) rfl ?_
  refine x_iconst (0 : Int32) dX3_mays_2 ic_0 ?_
  refine x_istore_n [1, 2, 3, 0] dX3_mays_3 (by decide) rfl ?_
  exact t_X3_mays_L4 hE  xFu _ _ _ _ _ H
abbrev mi_X3_sum : xM := (cX3_sum, yX3_sum, 5, some .int, 1)
theorem md_X3_sum : xMD mi_X3_sum 2 := ⟨by decide, by decide, by decide +kernel⟩
def f_X3_sum_L5 : Nat → Nat → Int32 → Int32 → Int32 → mH → Option (Int32 × mH)
  | 0, _, _, _, _, _ => none
  | n + 1, r1, x2, x3, x4, h => if (5 : Int32) ≤ x4 then some (x3, h) else (aI .int h r1 (((5 : Int32) * x2) + x4)).bind fun v2 => (f_X3_sum_L5 n) r1 x2 (x3 + v2) (x4 + (1 : Int32)) h
theorem t_X3_sum_L5 {G : xG} {C : xC} {o : Int32 × mH} (hE : xEnd G C (some (.int o.1)) o.2) : ∀ (n : Nat) (r1 : Nat) (x2 : Int32) (x3 : Int32) (x4 : Int32) (h : mH), f_X3_sum_L5 n r1 x2 x3 x4 h = some o → X G C mi_X3_sum 5 [(1, .ref r1), (2, .int x2), (3, .int x3), (4, .int x4)] [] h := by
  intro n
  induction n with
  | zero => intro r1 x2 x3 x4 h H; exact nomatch (show (none : Option (Int32 × mH)) = some o from H)
  | succ n ih =>
    intro r1 x2 x3 x4 h H
    rw [f_X3_sum_L5] at H
    refine x_iload 3 rfl dX3_sum_5 ?_
    refine x_iconst (5 : Int32) dX3_sum_7 ic_5 ?_
    refine x_icmp_ge 28 dX3_sum_8 (by decide) (fun c1 => ?_) (fun c1 => ?_)
    · rw [if_pos c1] at H
      refine x_iload_n 2 rfl dX3_sum_28 ?_
      obtain rfl := Option.some.inj H
      exact x_iret hE rfl rfl dX3_sum_29
    · rw [if_neg c1] at H
      refine x_iload_n 2 rfl dX3_sum_11 ?_
      refine x_aload_n 0 rfl dX3_sum_12 ?_
      refine x_iconst (5 : Int32) dX3_sum_13 ic_5 ?_
      refine x_iload_n 1 rfl dX3_sum_14 ?_
      refine x_imul dX3_sum_15 ?_
      refine x_iload 3 rfl dX3_sum_16 ?_
      refine x_iadd dX3_sum_18 ?_
      obtain ⟨v2, e2, H⟩ := ob H
      refine x_iald e2 dX3_sum_19 ?_
      refine x_iadd dX3_sum_20 ?_
      refine x_istore_n [1, 2, 0, 3] dX3_sum_21 (by decide) rfl ?_
      refine x_iinc 3 (x4 + (1 : Int32)) [1, 2, 3, 0] dX3_sum_22 rfl (ii_1 _) (by decide) rfl ?_
      refine x_goto (tgt := 5) dX3_sum_25 (by decide) ?_
      exact ih _ _ _ _ _ H
def f_X3_sum (r0 : Nat) (r1 : Nat) (x2 : Int32) (h : mH) : Option (Int32 × mH) := f_X3_sum_L5  xFu r1 x2 (0 : Int32) (0 : Int32) h
theorem t_X3_sum {G : xG} (C0 : xC) {l : Launch} {r0 : Nat} {r1 : Nat} {x2 : Int32} (h : mH) {o : Int32 × mH} (H : f_X3_sum r0 r1 x2 h = some o) : XR G l mi_X3_sum [.ref r0, .ref r1, .int x2] h (some (.int o.1)) o.2 := by
  refine XR.of C0 (by decide) (Nat.le_of_ble_eq_true rfl) (fun C _ _ _ hE => ?_)
  show X G C mi_X3_sum 0 [(0, .ref r0), (1, .ref r1), (2, .int x2)] [] h
  unfold f_X3_sum at H
  refine x_iconst (0 : Int32) dX3_sum_0 ic_0 ?_
  refine x_istore_n [1, 2, 3, 0] dX3_sum_1 (by decide) rfl ?_
  refine x_iconst (0 : Int32) dX3_sum_2 ic_0 ?_
  refine x_istore [1, 2, 3, 4, 0] dX3_sum_3 (by decide) rfl ?_
  refine X.sub [1, 2, 3, 4] rfl ?_
  exact t_X3_sum_L5 hE  xFu _ _ _ _ _ H
abbrev mi_X3_wanted : xM := (cX3_wanted, yX3_wanted, 2, some .int, 2)
theorem md_X3_wanted : xMD mi_X3_wanted 1 := ⟨by decide, by decide, by decide +kernel⟩
def f_X3_wanted (r0 : Nat) (x1 : Int32) (h : mH) : Option (Int32 × mH) := (gFr [2] 11 h r0).bind fun v1 => if gC h r0 = 2 then bR (f_X3_sum r0 v1 x1 h) fun a2 g2 => some (a2, g2) else none
theorem t_X3_wanted {G : xG} (C0 : xC) {l : Launch} {r0 : Nat} {x1 : Int32} (h : mH) {o : Int32 × mH} (H : f_X3_wanted r0 x1 h = some o) : XR G l mi_X3_wanted [.ref r0, .int x1] h (some (.int o.1)) o.2 := by
  refine XR.of C0 (by decide) (Nat.le_of_ble_eq_true rfl) (fun C _ _ _ hE => ?_)
  show X G C mi_X3_wanted 0 [(0, .ref r0), (1, .int x1)] [] h
  unfold f_X3_wanted at H
  refine x_aload_n 0 rfl dX3_wanted_0 ?_
  refine x_aload_n 0 rfl dX3_wanted_1 ?_
  obtain ⟨v1, e1, H⟩ := ob H
  refine x_getf fg_X3_27 (gFr_spec e1) dX3_wanted_2 ?_
  refine x_iload_n 1 rfl dX3_wanted_5 ?_
  obtain ⟨c2, H⟩ := oit H
  obtain ⟨a2, g2, e2, H⟩ := obR H
  refine x_callV (M' := mi_X3_sum) (n := 2) (As := [.ref v1, .int x1]) (t_X3_sum C _ e2) c2 rfl rfl md_X3_sum ⟨Nat.le_of_ble_eq_true rfl, Nat.le_of_ble_eq_true rfl⟩ q1149 q1151 qs23 q125 q1152 rfl (Nat.le_of_ble_eq_true rfl) dX3_wanted_6 ?_
  obtain rfl := Option.some.inj H
  exact x_iret hE rfl rfl dX3_wanted_9
abbrev mi_X1_person : xM := (cX1_person, yX1_person, 3, some .int, 10)
theorem md_X1_person : xMD mi_X1_person 2 := ⟨by decide, by decide, by decide +kernel⟩
def f_X1_person_b23 (r0 : Nat) (x1 : Int32) (x2 : Int32) (s0 : Int32) (h : mH) : Option ((Int32 ⊕ Nat) × mH) := bT (f_X1_need s0 h) fun v3 h3 => if x2 = (0 : Int32) then (gFr [0] 4 h3 r0).bind fun v5 => (gFr [2] 6 h3 v5).bind fun v6 => (aI .int h3 v6 x1).bind fun v7 => some (.inl v7, h3) else if x2 = (1 : Int32) then (gFr [0] 4 h3 r0).bind fun v9 => if gC h3 v9 = 2 then bR (f_X3_known v9 x1 h3) fun a10 g10 => some (.inl a10, g10) else none else if x2 = (2 : Int32) then (gFr [0] 4 h3 r0).bind fun v12 => if gC h3 v12 = 2 then bR (f_X3_person v12 x1 h3) fun a13 g13 => (gFi [10] 3 g13 a13).bind fun v14 => some (.inl v14, g13) else none else if x2 = (3 : Int32) then (gFr [0] 4 h3 r0).bind fun v16 => if gC h3 v16 = 2 then bR (f_X3_mays v16 x1 h3) fun a17 g17 => some (.inl a17, g17) else none else if x2 = (4 : Int32) then (gFr [0] 4 h3 r0).bind fun v19 => (gFi [2] 4 h3 v19).bind fun v20 => some (.inl ((v20 >>> (x1 &&& 31)) &&& (1 : Int32)), h3) else if x2 = (5 : Int32) then (gFr [0] 4 h3 r0).bind fun v22 => (gFi [2] 5 h3 v22).bind fun v23 => some (.inl ((v23 >>> (x1 &&& 31)) &&& (1 : Int32)), h3) else if x2 = (6 : Int32) then (gFr [0] 4 h3 r0).bind fun v25 => (gFr [2] 7 h3 v25).bind fun v26 => (aI .int h3 v26 x1).bind fun v27 => some (.inl v27, h3) else (gFr [0] 4 h3 r0).bind fun v28 => if gC h3 v28 = 2 then bR (f_X3_wanted v28 x1 h3) fun a29 g29 => some (.inl a29, g29) else none
theorem t_X1_person_b23 {G : xG} {C : xC} {o : (Int32 ⊕ Nat) × mH} (hE : xEndT G C [] (xoI "java/util/NoSuchElementException" o.1) o.2) (r0 : Nat) (x1 : Int32) (x2 : Int32) (s0 : Int32) (h : mH) (H : f_X1_person_b23 r0 x1 x2 s0 h = some o) : X G C mi_X1_person 23 [(0, .ref r0), (1, .int x1), (2, .int x2)] [.int s0] h := by
  unfold f_X1_person_b23 at H
  rcases obT H with ⟨a3, h3, e3, rfl⟩ | ⟨v3, h3, e3, H⟩
  · exact x_goX (t_X1_need C _ e3) (x_rS (M' := mi_X1_need) (n := 1) (As := [.int s0]) (t_X1_need C _ e3) md_X1_need ⟨Nat.le_of_ble_eq_true rfl, Nat.le_of_ble_eq_true rfl⟩ q1857 q1858 q120 q1859 rfl (Nat.le_of_ble_eq_true rfl) dX1_person_23) hE
  refine x_goR (r := none) (t_X1_need C _ e3) (x_rS (M' := mi_X1_need) (n := 1) (As := [.int s0]) (t_X1_need C _ e3) md_X1_need ⟨Nat.le_of_ble_eq_true rfl, Nat.le_of_ble_eq_true rfl⟩ q1857 q1858 q120 q1859 rfl (Nat.le_of_ble_eq_true rfl) dX1_person_23) ?_
  refine x_iload_n 2 rfl dX1_person_26 ?_
  by_cases c4 : x2 = (0 : Int32)
  · rw [if_pos c4] at H
    refine x_tsw (off := 41) 68 dX1_person_27 c4 (by decide) (by decide) (by decide) (by decide) ?_
    refine x_aload_n 0 rfl dX1_person_68 ?_
    obtain ⟨v5, e5, H⟩ := ob H
    refine x_getf fg_X1_36 (gFr_spec e5) dX1_person_69 ?_
    obtain ⟨v6, e6, H⟩ := ob H
    refine x_getf fg_X1_154 (gFr_spec e6) dX1_person_72 ?_
    refine x_iload_n 1 rfl dX1_person_75 ?_
    obtain ⟨v7, e7, H⟩ := ob H
    refine x_iald e7 dX1_person_76 ?_
    obtain rfl := Option.some.inj H
    exact x_iretT hE rfl rfl dX1_person_77
  rw [if_neg c4] at H
  by_cases c8 : x2 = (1 : Int32)
  · rw [if_pos c8] at H
    refine x_tsw (off := 51) 78 dX1_person_27 c8 (by decide) (by decide) (by decide) (by decide) ?_
    refine x_aload_n 0 rfl dX1_person_78 ?_
    obtain ⟨v9, e9, H⟩ := ob H
    refine x_getf fg_X1_36 (gFr_spec e9) dX1_person_79 ?_
    refine x_iload_n 1 rfl dX1_person_82 ?_
    obtain ⟨c10, H⟩ := oit H
    obtain ⟨a10, g10, e10, H⟩ := obR H
    refine x_callV (M' := mi_X3_known) (n := 1) (As := [.int x1]) (t_X3_known C _ e10) c10 rfl rfl md_X3_known ⟨Nat.le_of_ble_eq_true rfl, Nat.le_of_ble_eq_true rfl⟩ q1448 q1240 q1241 q125 q1242 rfl (Nat.le_of_ble_eq_true rfl) dX1_person_83 ?_
    obtain rfl := Option.some.inj H
    exact x_iretT hE rfl rfl dX1_person_86
  rw [if_neg c8] at H
  by_cases c11 : x2 = (2 : Int32)
  · rw [if_pos c11] at H
    refine x_tsw (off := 60) 87 dX1_person_27 c11 (by decide) (by decide) (by decide) (by decide) ?_
    refine x_aload_n 0 rfl dX1_person_87 ?_
    obtain ⟨v12, e12, H⟩ := ob H
    refine x_getf fg_X1_36 (gFr_spec e12) dX1_person_88 ?_
    refine x_iload_n 1 rfl dX1_person_91 ?_
    obtain ⟨c13, H⟩ := oit H
    obtain ⟨a13, g13, e13, H⟩ := obR H
    refine x_callV (M' := mi_X3_person) (n := 1) (As := [.int x1]) (t_X3_person C _ e13) c13 rfl rfl md_X3_person ⟨Nat.le_of_ble_eq_true rfl, Nat.le_of_ble_eq_true rfl⟩ q1127 q321 q322 q125 q323 rfl (Nat.le_of_ble_eq_true rfl) dX1_person_92 ?_
    obtain ⟨v14, e14, H⟩ := ob H
    refine x_getf fg_X1_164 (gFi_spec e14) dX1_person_95 ?_
    obtain rfl := Option.some.inj H
    exact x_iretT hE rfl rfl dX1_person_98
  rw [if_neg c11] at H
  by_cases c15 : x2 = (3 : Int32)
  · rw [if_pos c15] at H
    refine x_tsw (off := 72) 99 dX1_person_27 c15 (by decide) (by decide) (by decide) (by decide) ?_
    refine x_aload_n 0 rfl dX1_person_99 ?_
    obtain ⟨v16, e16, H⟩ := ob H
    refine x_getf fg_X1_36 (gFr_spec e16) dX1_person_100 ?_
    refine x_iload_n 1 rfl dX1_person_103 ?_
    obtain ⟨c17, H⟩ := oit H
    obtain ⟨a17, g17, e17, H⟩ := obR H
    refine x_callV (M' := mi_X3_mays) (n := 1) (As := [.int x1]) (t_X3_mays C _ e17) c17 rfl rfl md_X3_mays ⟨Nat.le_of_ble_eq_true rfl, Nat.le_of_ble_eq_true rfl⟩ q1401 q1402 q1403 q125 q1404 rfl (Nat.le_of_ble_eq_true rfl) dX1_person_104 ?_
    obtain rfl := Option.some.inj H
    exact x_iretT hE rfl rfl dX1_person_107
  rw [if_neg c15] at H
  by_cases c18 : x2 = (4 : Int32)
  · rw [if_pos c18] at H
    refine x_tsw (off := 81) 108 dX1_person_27 c18 (by decide) (by decide) (by decide) (by decide) ?_
    refine x_aload_n 0 rfl dX1_person_108 ?_
    obtain ⟨v19, e19, H⟩ := ob H
    refine x_getf fg_X1_36 (gFr_spec e19) dX1_person_109 ?_
    obtain ⟨v20, e20, H⟩ := ob H
    refine x_getf fg_X1_172 (gFi_spec e20) dX1_person_112 ?_
    refine x_iload_n 1 rfl dX1_person_115 ?_
    refine x_ishr dX1_person_116 ?_
    refine x_iconst (1 : Int32) dX1_person_117 ic_1 ?_
    refine x_iand dX1_person_118 ?_
    obtain rfl := Option.some.inj H
    exact x_iretT hE rfl rfl dX1_person_119
  rw [if_neg c18] at H
  by_cases c21 : x2 = (5 : Int32)
  · rw [if_pos c21] at H
    refine x_tsw (off := 93) 120 dX1_person_27 c21 (by decide) (by decide) (by decide) (by decide) ?_
    refine x_aload_n 0 rfl dX1_person_120 ?_
    obtain ⟨v22, e22, H⟩ := ob H
    refine x_getf fg_X1_36 (gFr_spec e22) dX1_person_121 ?_
    obtain ⟨v23, e23, H⟩ := ob H
    refine x_getf fg_X1_175 (gFi_spec e23) dX1_person_124 ?_
    refine x_iload_n 1 rfl dX1_person_127 ?_
    refine x_ishr dX1_person_128 ?_
    refine x_iconst (1 : Int32) dX1_person_129 ic_1 ?_
    refine x_iand dX1_person_130 ?_
    obtain rfl := Option.some.inj H
    exact x_iretT hE rfl rfl dX1_person_131
  rw [if_neg c21] at H
  by_cases c24 : x2 = (6 : Int32)
  · rw [if_pos c24] at H
    refine x_tsw (off := 105) 132 dX1_person_27 c24 (by decide) (by decide) (by decide) (by decide) ?_
    refine x_aload_n 0 rfl dX1_person_132 ?_
    obtain ⟨v25, e25, H⟩ := ob H
    refine x_getf fg_X1_36 (gFr_spec e25) dX1_person_133 ?_
    obtain ⟨v26, e26, H⟩ := ob H
    refine x_getf fg_X1_178 (gFr_spec e26) dX1_person_136 ?_
    refine x_iload_n 1 rfl dX1_person_139 ?_
    obtain ⟨v27, e27, H⟩ := ob H
    refine x_iald e27 dX1_person_140 ?_
    obtain rfl := Option.some.inj H
    exact x_iretT hE rfl rfl dX1_person_141
  rw [if_neg c24] at H
  refine x_tswd 142 dX1_person_27 (xts0_7 c4 c8 c11 c15 c18 c21 c24) (by decide) ?_
  refine x_aload_n 0 rfl dX1_person_142 ?_
  obtain ⟨v28, e28, H⟩ := ob H
  refine x_getf fg_X1_36 (gFr_spec e28) dX1_person_143 ?_
  refine x_iload_n 1 rfl dX1_person_146 ?_
  obtain ⟨c29, H⟩ := oit H
  obtain ⟨a29, g29, e29, H⟩ := obR H
  refine x_callV (M' := mi_X3_wanted) (n := 1) (As := [.int x1]) (t_X3_wanted C _ e29) c29 rfl rfl md_X3_wanted ⟨Nat.le_of_ble_eq_true rfl, Nat.le_of_ble_eq_true rfl⟩ q1145 q1146 q1147 q125 q1148 rfl (Nat.le_of_ble_eq_true rfl) dX1_person_147 ?_
  obtain rfl := Option.some.inj H
  exact x_iretT hE rfl rfl dX1_person_150
def f_X1_person_b22 (r0 : Nat) (x1 : Int32) (x2 : Int32) (h : mH) : Option ((Int32 ⊕ Nat) × mH) := f_X1_person_b23 r0 x1 x2 (0 : Int32) h
theorem t_X1_person_b22 {G : xG} {C : xC} {o : (Int32 ⊕ Nat) × mH} (hE : xEndT G C [] (xoI "java/util/NoSuchElementException" o.1) o.2) (r0 : Nat) (x1 : Int32) (x2 : Int32) (h : mH) (H : f_X1_person_b22 r0 x1 x2 h = some o) : X G C mi_X1_person 22 [(0, .ref r0), (1, .int x1), (2, .int x2)] [] h := by
  unfold f_X1_person_b22 at H
  refine x_iconst (0 : Int32) dX1_person_22 ic_0 ?_
  exact t_X1_person_b23 hE _ _ _ _ _ H
def f_X1_person (r0 : Nat) (x1 : Int32) (x2 : Int32) (h : mH) : Option ((Int32 ⊕ Nat) × mH) := if gC h r0 = 0 then bR (f_X1_isPerson r0 x1 h) fun a1 g1 => if a1 = 0 then f_X1_person_b22 r0 x1 x2 g1 else bR (f_X1_isIn x2 (0 : Int32) (7 : Int32) g1) fun a30 g30 => if a30 = 0 then f_X1_person_b22 r0 x1 x2 g30 else f_X1_person_b23 r0 x1 x2 (1 : Int32) g30 else none
theorem t_X1_person {G : xG} (C0 : xC) {l : Launch} {r0 : Nat} {x1 : Int32} {x2 : Int32} (h : mH) {o : (Int32 ⊕ Nat) × mH} (H : f_X1_person r0 x1 x2 h = some o) : XT G l mi_X1_person [.ref r0, .int x1, .int x2] h (xoI "java/util/NoSuchElementException" o.1) o.2 := by
  refine XT.of C0 (by decide) (Nat.le_of_ble_eq_true rfl) (fun C _ _ _ hE => ?_)
  show X G C mi_X1_person 0 [(0, .ref r0), (1, .int x1), (2, .int x2)] [] h
  unfold f_X1_person at H
  refine x_aload_n 0 rfl dX1_person_0 ?_
  refine x_iload_n 1 rfl dX1_person_1 ?_
  obtain ⟨c1, H⟩ := oit H
  obtain ⟨a1, g1, e1, H⟩ := obR H
  refine x_callV (M' := mi_X1_isPerson) (n := 1) (As := [.int x1]) (t_X1_isPerson C _ e1) c1 rfl rfl md_X1_isPerson ⟨Nat.le_of_ble_eq_true rfl, Nat.le_of_ble_eq_true rfl⟩ q1108 q1110 qs19 q120 q1111 rfl (Nat.le_of_ble_eq_true rfl) dX1_person_2 ?_
  refine x_if_eq 22 dX1_person_5 (by decide) (fun c2 => ?_) (fun c2 => ?_)
  · rw [if_pos c2] at H
    exact t_X1_person_b22 hE _ _ _ _ H
  · rw [if_neg c2] at H
    refine x_iload_n 2 rfl dX1_person_8 ?_
    refine x_iconst (0 : Int32) dX1_person_9 ic_0 ?_
    refine x_bipush (7 : Int32) dX1_person_10 bi_7 ?_
    obtain ⟨a30, g30, e30, H⟩ := obR H
    refine x_callS (M' := mi_X1_isIn) (n := 3) (As := [.int x2, .int (0 : Int32), .int (7 : Int32)]) (t_X1_isIn C _ e30) md_X1_isIn ⟨Nat.le_of_ble_eq_true rfl, Nat.le_of_ble_eq_true rfl⟩ q1126 q921 q120 q922 rfl (Nat.le_of_ble_eq_true rfl) dX1_person_12 ?_
    refine x_if_eq 22 dX1_person_15 (by decide) (fun c31 => ?_) (fun c31 => ?_)
    · rw [if_pos c31] at H
      exact t_X1_person_b22 hE _ _ _ _ H
    · rw [if_neg c31] at H
      refine x_iconst (1 : Int32) dX1_person_18 ic_1 ?_
      refine x_goto (tgt := 23) dX1_person_19 (by decide) ?_
      exact t_X1_person_b23 hE _ _ _ _ _ H
abbrev mi_X0_person : xM := (cX0_person, yX0_person, 5, some .int, 11)
theorem md_X0_person : xMD mi_X0_person 4 := ⟨by decide, by decide, by decide +kernel⟩
def f_X0_person_b13 (s0 : Nat) (h : mH) : Option (Int32 × mH) := some ((1 : Int32), h)
theorem t_X0_person_b13 {G : xG} {C : xC} {o : Int32 × mH} (hE : xEndT G C (tableOf [(0, 10, 13, 13)]) (.inl (some (.int o.1))) o.2) (s0 : Nat) (h : mH) (H : f_X0_person_b13 s0 h = some o) : X G C mi_X0_person 13 [] [.ref s0] h := by
  unfold f_X0_person_b13 at H
  refine x_astore [0] dX0_person_13 (by decide) rfl ?_
  refine x_iconst (1 : Int32) dX0_person_15 ic_1 ?_
  obtain rfl := Option.some.inj H
  exact x_iretT hE rfl rfl dX0_person_16
def f_X0_person (r0 : Nat) (x1 : Int32) (x2 : Int32) (r3 : Nat) (h : mH) : Option (Int32 × mH) := if gC h r0 = 0 then bH (f_X1_person r0 x1 x2 h) (fun a1 h1 => if 6 ≤ a1 then f_X0_person_b13 a1 h1 else none) fun v1 h1 => (sL h1 r3 (0 : Int32) (v1.toInt64)).bind fun h2 => some ((0 : Int32), h2) else none
theorem t_X0_person {G : xG} (C0 : xC) {l : Launch} {r0 : Nat} {x1 : Int32} {x2 : Int32} {r3 : Nat} (h : mH) {o : Int32 × mH} (H : f_X0_person r0 x1 x2 r3 h = some o) : XRW G l mi_X0_person [(0, 10, 13, 13)] [.ref r0, .int x1, .int x2, .ref r3] h (some (.int o.1)) o.2 := by
  refine XRW.of C0 (by decide) (Nat.le_of_ble_eq_true rfl) (fun C _ _ _ hE => ?_)
  show X G C mi_X0_person 0 [(0, .ref r0), (1, .int x1), (2, .int x2), (3, .ref r3)] [] h
  unfold f_X0_person at H
  refine x_aload_n 3 rfl dX0_person_0 ?_
  refine x_iconst (0 : Int32) dX0_person_1 ic_0 ?_
  refine x_aload_n 0 rfl dX0_person_2 ?_
  refine x_iload_n 1 rfl dX0_person_3 ?_
  refine x_iload_n 2 rfl dX0_person_4 ?_
  obtain ⟨c1, H⟩ := oit H
  rcases obH H with ⟨a1, h1, e1, H⟩ | ⟨v1, h1, e1, H⟩
  · obtain ⟨c, H⟩ := oit H
    refine x_goH (x := ⟨0, 10, 13, 13⟩) (t_X1_person C _ e1) (x_rV (M' := mi_X1_person) (n := 2) (As := [.int x1, .int x2]) (t_X1_person C _ e1) c1 rfl rfl md_X1_person ⟨Nat.le_of_ble_eq_true rfl, Nat.le_of_ble_eq_true rfl⟩ q1853 q1854 q1855 q120 q1856 rfl (Nat.le_of_ble_eq_true rfl) dX0_person_5) c hE.2.2.2 (by decide) (by decide) q1852 ?_
    refine X.sub [] rfl ?_
    exact t_X0_person_b13 hE _ _ H
  refine x_goR (r := (some (.int v1))) (t_X1_person C _ e1) (x_rV (M' := mi_X1_person) (n := 2) (As := [.int x1, .int x2]) (t_X1_person C _ e1) c1 rfl rfl md_X1_person ⟨Nat.le_of_ble_eq_true rfl, Nat.le_of_ble_eq_true rfl⟩ q1853 q1854 q1855 q120 q1856 rfl (Nat.le_of_ble_eq_true rfl) dX0_person_5) ?_
  refine x_i2l dX0_person_8 ?_
  obtain ⟨h2, e2, H⟩ := ob H
  refine x_last e2 dX0_person_9 ?_
  refine x_goto (tgt := 17) dX0_person_10 (by decide) ?_
  refine x_iconst (0 : Int32) dX0_person_17 ic_0 ?_
  obtain rfl := Option.some.inj H
  exact x_iretT hE rfl rfl dX0_person_18
abbrev mi_J3_fill : xM := (cJ3_fill, yJ3_fill, 4, none, 1)
theorem md_J3_fill : xMD mi_J3_fill 2 := ⟨by decide, by decide, by decide +kernel⟩
def f_J3_fill_L5 : Nat → Nat → Int32 → Int32 → Int32 → mH → Option (Unit × mH)
  | 0, _, _, _, _, _ => none
  | n + 1, r0, x1, x2, x3, h => if x3 ≤ x2 then some ((), h) else (sI .int h r0 x2 x1).bind fun h3 => (f_J3_fill_L5 n) r0 x1 (x2 + (1 : Int32)) x3 h3
theorem t_J3_fill_L5 {G : xG} {C : xC} {o : Unit × mH} (hE : xEnd G C none o.2) : ∀ (n : Nat) (r0 : Nat) (x1 : Int32) (x2 : Int32) (x3 : Int32) (h : mH), f_J3_fill_L5 n r0 x1 x2 x3 h = some o → X G C mi_J3_fill 5 [(0, .ref r0), (1, .int x1), (2, .int x2), (3, .int x3)] [] h := by
  intro n
  induction n with
  | zero => intro r0 x1 x2 x3 h H; exact nomatch (show (none : Option (Unit × mH)) = some o from H)
  | succ n ih =>
    intro r0 x1 x2 x3 h H
    rw [f_J3_fill_L5] at H
    refine x_iload_n 2 rfl dJ3_fill_5 ?_
    refine x_iload_n 3 rfl dJ3_fill_6 ?_
    refine x_icmp_ge 20 dJ3_fill_7 (by decide) (fun c2 => ?_) (fun c2 => ?_)
    · rw [if_pos c2] at H
      obtain rfl := Option.some.inj H
      exact x_vret hE rfl dJ3_fill_20
    · rw [if_neg c2] at H
      refine x_aload_n 0 rfl dJ3_fill_10 ?_
      refine x_iload_n 2 rfl dJ3_fill_11 ?_
      refine x_iload_n 1 rfl dJ3_fill_12 ?_
      obtain ⟨h3, e3, H⟩ := ob H
      refine x_iast e3 dJ3_fill_13 ?_
      refine x_iinc 2 (x2 + (1 : Int32)) [1, 2, 0, 3] dJ3_fill_14 rfl (ii_1 _) (by decide) rfl ?_
      refine x_goto (tgt := 5) dJ3_fill_17 (by decide) ?_
      exact ih _ _ _ _ _ H
def f_J3_fill (r0 : Nat) (x1 : Int32) (h : mH) : Option (Unit × mH) := (aN h r0).bind fun v1 => f_J3_fill_L5  xFu r0 x1 (0 : Int32) v1 h
theorem t_J3_fill {G : xG} (C0 : xC) {l : Launch} {r0 : Nat} {x1 : Int32} (h : mH) {o : Unit × mH} (H : f_J3_fill r0 x1 h = some o) : XR G l mi_J3_fill [.ref r0, .int x1] h none o.2 := by
  refine XR.of C0 (by decide) (Nat.le_of_ble_eq_true rfl) (fun C _ _ _ hE => ?_)
  show X G C mi_J3_fill 0 [(0, .ref r0), (1, .int x1)] [] h
  unfold f_J3_fill at H
  refine x_iconst (0 : Int32) dJ3_fill_0 ic_0 ?_
  refine x_istore_n [1, 2, 0] dJ3_fill_1 (by decide) rfl ?_
  refine x_aload_n 0 rfl dJ3_fill_2 ?_
  obtain ⟨v1, e1, H⟩ := ob H
  refine x_alen e1 dJ3_fill_3 ?_
  refine x_istore_n [1, 2, 3, 0] dJ3_fill_4 (by decide) rfl ?_
  exact t_J3_fill_L5 hE  xFu _ _ _ _ _ H
abbrev mi_X9_init : xM := (cX9_init, yX9_init, 2, none, 1)
theorem md_X9_init : xMD mi_X9_init 1 := ⟨by decide, by decide, by decide +kernel⟩
def f_X9_init (r0 : Nat) (r1 : Nat) (h : mH) : Option (Unit × mH) := if 6 ≤ r0 then (pF [9, 10] 0 (.ref r1) h r0).bind fun h2 => some ((), h2) else none
theorem t_X9_init {G : xG} (C0 : xC) {l : Launch} {r0 : Nat} {r1 : Nat} (h : mH) {o : Unit × mH} (H : f_X9_init r0 r1 h = some o) : XR G l mi_X9_init [.ref r0, .ref r1] h none o.2 := by
  refine XR.of C0 (by decide) (Nat.le_of_ble_eq_true rfl) (fun C _ _ _ hE => ?_)
  show X G C mi_X9_init 0 [(0, .ref r0), (1, .ref r1)] [] h
  unfold f_X9_init at H
  refine x_aload_n 0 rfl dX9_init_0 ?_
  obtain ⟨c1, H⟩ := oit H
  refine x_oinit c1 (by decide) q930 q170 q171 (Nat.le_of_ble_eq_true rfl) dX9_init_1 ?_
  refine x_aload_n 0 rfl dX9_init_4 ?_
  refine x_aload_n 1 rfl dX9_init_5 ?_
  obtain ⟨h2, e2, H⟩ := ob H
  refine x_putf fp_X9_7 rfl rfl e2 dX9_init_6 ?_
  obtain rfl := Option.some.inj H
  exact x_vret hE rfl dX9_init_9
abbrev mi_X10_init : xM := (cX10_init, yX10_init, 3, none, 2)
theorem md_X10_init : xMD mi_X10_init 2 := ⟨by decide, by decide, by decide +kernel⟩
def f_X10_init (r0 : Nat) (r1 : Nat) (x2 : Int32) (h : mH) : Option (Unit × mH) := if 6 ≤ r0 then bR (f_X9_init r0 r1 h) fun a1 g1 => bR (nA .int g1 (5 : Int32)) fun a2 g2 => (pF [10] 4 (.ref a2) g2 r0).bind fun h3 => bR (nA .int h3 (5 : Int32)) fun a4 g4 => (pF [10] 5 (.ref a4) g4 r0).bind fun h5 => bR (nA .int h5 (5 : Int32)) fun a6 g6 => (pF [10] 6 (.ref a6) g6 r0).bind fun h7 => (pF [10] 1 (.int x2) h7 r0).bind fun h8 => (gFr [10] 5 h8 r0).bind fun v9 => bR (f_J3_fill v9 (-1 : Int32) h8) fun a10 g10 => some ((), g10) else none
theorem t_X10_init {G : xG} (C0 : xC) {l : Launch} {r0 : Nat} {r1 : Nat} {x2 : Int32} (h : mH) {o : Unit × mH} (H : f_X10_init r0 r1 x2 h = some o) : XR G l mi_X10_init [.ref r0, .ref r1, .int x2] h none o.2 := by
  refine XR.of C0 (by decide) (Nat.le_of_ble_eq_true rfl) (fun C _ _ _ hE => ?_)
  show X G C mi_X10_init 0 [(0, .ref r0), (1, .ref r1), (2, .int x2)] [] h
  unfold f_X10_init at H
  refine x_aload_n 0 rfl dX10_init_0 ?_
  refine x_aload_n 1 rfl dX10_init_1 ?_
  obtain ⟨c1, H⟩ := oit H
  obtain ⟨a1, g1, e1, H⟩ := obR H
  refine x_callI (M' := mi_X9_init) (n := 1) (As := [.ref r1]) (t_X9_init C _ e1) c1 md_X9_init ⟨Nat.le_of_ble_eq_true rfl, Nat.le_of_ble_eq_true rfl⟩ rfl rfl q927 q928 q144 q929 rfl (Nat.le_of_ble_eq_true rfl) dX10_init_2 ?_
  refine x_aload_n 0 rfl dX10_init_5 ?_
  refine x_iconst (5 : Int32) dX10_init_6 ic_5 ?_
  obtain ⟨a2, g2, e2, H⟩ := obR H
  refine x_newa (at_ := .int) (ty := .int) rfl (by decide) q304 e2 dX10_init_7 ?_
  obtain ⟨h3, e3, H⟩ := ob H
  refine x_putf fp_X10_9 rfl rfl e3 dX10_init_9 ?_
  refine x_aload_n 0 rfl dX10_init_12 ?_
  refine x_iconst (5 : Int32) dX10_init_13 ic_5 ?_
  obtain ⟨a4, g4, e4, H⟩ := obR H
  refine x_newa (at_ := .int) (ty := .int) rfl (by decide) q304 e4 dX10_init_14 ?_
  obtain ⟨h5, e5, H⟩ := ob H
  refine x_putf fp_X10_15 rfl rfl e5 dX10_init_16 ?_
  refine x_aload_n 0 rfl dX10_init_19 ?_
  refine x_iconst (5 : Int32) dX10_init_20 ic_5 ?_
  obtain ⟨a6, g6, e6, H⟩ := obR H
  refine x_newa (at_ := .int) (ty := .int) rfl (by decide) q304 e6 dX10_init_21 ?_
  obtain ⟨h7, e7, H⟩ := ob H
  refine x_putf fp_X10_18 rfl rfl e7 dX10_init_23 ?_
  refine x_aload_n 0 rfl dX10_init_26 ?_
  refine x_iload_n 2 rfl dX10_init_27 ?_
  obtain ⟨h8, e8, H⟩ := ob H
  refine x_putf fp_X10_21 rfl rfl e8 dX10_init_28 ?_
  refine x_aload_n 0 rfl dX10_init_31 ?_
  obtain ⟨v9, e9, H⟩ := ob H
  refine x_getf fg_X10_15 (gFr_spec e9) dX10_init_32 ?_
  refine x_iconst (-1 : Int32) dX10_init_35 ic_m1 ?_
  obtain ⟨a10, g10, e10, H⟩ := obR H
  refine x_callS (M' := mi_J3_fill) (n := 2) (As := [.ref v9, .int (-1 : Int32)]) (t_J3_fill C _ e10) md_J3_fill ⟨Nat.le_of_ble_eq_true rfl, Nat.le_of_ble_eq_true rfl⟩ q931 q310 q126 q311 rfl (Nat.le_of_ble_eq_true rfl) dX10_init_36 ?_
  obtain rfl := Option.some.inj H
  exact x_vret hE rfl dX10_init_39
abbrev mi_X10_sells : xM := (cX10_sells, yX10_sells, 2, some .boolean, 1)
theorem md_X10_sells : xMD mi_X10_sells 1 := ⟨by decide, by decide, by decide +kernel⟩
def f_X10_sells (r0 : Nat) (x1 : Int32) (h : mH) : Option (Int32 × mH) := (gFr [10] 5 h r0).bind fun v1 => (aI .int h v1 x1).bind fun v2 => if v2 = (-1 : Int32) then some ((0 : Int32), h) else some ((1 : Int32), h)
theorem t_X10_sells {G : xG} (C0 : xC) {l : Launch} {r0 : Nat} {x1 : Int32} (h : mH) {o : Int32 × mH} (H : f_X10_sells r0 x1 h = some o) : XR G l mi_X10_sells [.ref r0, .int x1] h (some (.int o.1)) o.2 := by
  refine XR.of C0 (by decide) (Nat.le_of_ble_eq_true rfl) (fun C _ _ _ hE => ?_)
  show X G C mi_X10_sells 0 [(0, .ref r0), (1, .int x1)] [] h
  unfold f_X10_sells at H
  refine x_aload_n 0 rfl dX10_sells_0 ?_
  obtain ⟨v1, e1, H⟩ := ob H
  refine x_getf fg_X10_15 (gFr_spec e1) dX10_sells_1 ?_
  refine x_iload_n 1 rfl dX10_sells_4 ?_
  obtain ⟨v2, e2, H⟩ := ob H
  refine x_iald e2 dX10_sells_5 ?_
  refine x_iconst (-1 : Int32) dX10_sells_6 ic_m1 ?_
  refine x_icmp_eq 14 dX10_sells_7 (by decide) (fun c3 => ?_) (fun c3 => ?_)
  · rw [if_pos c3] at H
    refine x_iconst (0 : Int32) dX10_sells_14 ic_0 ?_
    obtain rfl := Option.some.inj H
    exact x_iret hE rfl rfl dX10_sells_15
  · rw [if_neg c3] at H
    refine x_iconst (1 : Int32) dX10_sells_10 ic_1 ?_
    refine x_goto (tgt := 15) dX10_sells_11 (by decide) ?_
    obtain rfl := Option.some.inj H
    exact x_iret hE rfl rfl dX10_sells_15
abbrev mi_X11_init : xM := (cX11_init, yX11_init, 2, none, 1)
theorem md_X11_init : xMD mi_X11_init 1 := ⟨by decide, by decide, by decide +kernel⟩
def f_X11_init (r0 : Nat) (x1 : Int32) (h : mH) : Option (Unit × mH) := if 6 ≤ r0 then (pF2 [14, 15] 0 [11, 12, 13] 1 (.int x1) h r0).bind fun h2 => some ((), h2) else none
theorem t_X11_init {G : xG} (C0 : xC) {l : Launch} {r0 : Nat} {x1 : Int32} (h : mH) {o : Unit × mH} (H : f_X11_init r0 x1 h = some o) : XR G l mi_X11_init [.ref r0, .int x1] h none o.2 := by
  refine XR.of C0 (by decide) (Nat.le_of_ble_eq_true rfl) (fun C _ _ _ hE => ?_)
  show X G C mi_X11_init 0 [(0, .ref r0), (1, .int x1)] [] h
  unfold f_X11_init at H
  refine x_aload_n 0 rfl dX11_init_0 ?_
  obtain ⟨c1, H⟩ := oit H
  refine x_oinit c1 (by decide) q1180 q170 q171 (Nat.le_of_ble_eq_true rfl) dX11_init_1 ?_
  refine x_aload_n 0 rfl dX11_init_4 ?_
  refine x_iload_n 1 rfl dX11_init_5 ?_
  obtain ⟨h2, e2, H⟩ := ob H
  refine x_putf2 fp_X11_7 fp_X11_7b rfl rfl e2 dX11_init_6 ?_
  obtain rfl := Option.some.inj H
  exact x_vret hE rfl dX11_init_9
abbrev mi_X11_told : xM := (cX11_told, yX11_told, 2, some .int, 1)
theorem md_X11_told : xMD mi_X11_told 2 := ⟨by decide, by decide, by decide +kernel⟩
def f_X11_told (x0 : Int32) (x1 : Int32) (h : mH) : Option (Int32 × mH) := if x0 = 0 then some ((0 : Int32), h) else some ((x1 + x0), h)
theorem t_X11_told {G : xG} (C0 : xC) {l : Launch} {x0 : Int32} {x1 : Int32} (h : mH) {o : Int32 × mH} (H : f_X11_told x0 x1 h = some o) : XR G l mi_X11_told [.int x0, .int x1] h (some (.int o.1)) o.2 := by
  refine XR.of C0 (by decide) (Nat.le_of_ble_eq_true rfl) (fun C _ _ _ hE => ?_)
  show X G C mi_X11_told 0 [(0, .int x0), (1, .int x1)] [] h
  unfold f_X11_told at H
  refine x_iload_n 0 rfl dX11_told_0 ?_
  refine x_if_ne 8 dX11_told_1 (by decide) (fun c1 => ?_) (fun c1 => ?_)
  · rw [if_neg c1] at H
    refine x_iload_n 1 rfl dX11_told_8 ?_
    refine x_iload_n 0 rfl dX11_told_9 ?_
    refine x_iadd dX11_told_10 ?_
    obtain rfl := Option.some.inj H
    exact x_iret hE rfl rfl dX11_told_11
  · rw [if_pos c1] at H
    refine x_iconst (0 : Int32) dX11_told_4 ic_0 ?_
    refine x_goto (tgt := 11) dX11_told_5 (by decide) ?_
    obtain rfl := Option.some.inj H
    exact x_iret hE rfl rfl dX11_told_11
abbrev mi_X12_init : xM := (cX12_init, yX12_init, 3, none, 2)
theorem md_X12_init : xMD mi_X12_init 2 := ⟨by decide, by decide, by decide +kernel⟩
def f_X12_init (r0 : Nat) (x1 : Int32) (x2 : Int32) (h : mH) : Option (Unit × mH) := if 6 ≤ r0 then bR (f_X11_init r0 x1 h) fun a1 g1 => (pF [11, 12, 13] 0 (.int x2) g1 r0).bind fun h2 => some ((), h2) else none
theorem t_X12_init {G : xG} (C0 : xC) {l : Launch} {r0 : Nat} {x1 : Int32} {x2 : Int32} (h : mH) {o : Unit × mH} (H : f_X12_init r0 x1 x2 h = some o) : XR G l mi_X12_init [.ref r0, .int x1, .int x2] h none o.2 := by
  refine XR.of C0 (by decide) (Nat.le_of_ble_eq_true rfl) (fun C _ _ _ hE => ?_)
  show X G C mi_X12_init 0 [(0, .ref r0), (1, .int x1), (2, .int x2)] [] h
  unfold f_X12_init at H
  refine x_aload_n 0 rfl dX12_init_0 ?_
  refine x_iload_n 1 rfl dX12_init_1 ?_
  obtain ⟨c1, H⟩ := oit H
  obtain ⟨a1, g1, e1, H⟩ := obR H
  refine x_callI (M' := mi_X11_init) (n := 1) (As := [.int x1]) (t_X11_init C _ e1) c1 md_X11_init ⟨Nat.le_of_ble_eq_true rfl, Nat.le_of_ble_eq_true rfl⟩ rfl rfl q1177 q1178 q149 q1179 rfl (Nat.le_of_ble_eq_true rfl) dX12_init_2 ?_
  refine x_aload_n 0 rfl dX12_init_5 ?_
  refine x_iload_n 2 rfl dX12_init_6 ?_
  obtain ⟨h2, e2, H⟩ := ob H
  refine x_putf fp_X12_7 rfl rfl e2 dX12_init_7 ?_
  obtain rfl := Option.some.inj H
  exact x_vret hE rfl dX12_init_10
abbrev mi_X3_isVeiled : xM := (cX3_isVeiled, yX3_isVeiled, 2, some .boolean, 2)
theorem md_X3_isVeiled : xMD mi_X3_isVeiled 1 := ⟨by decide, by decide, by decide +kernel⟩
def f_X3_isVeiled (r0 : Nat) (x1 : Int32) (h : mH) : Option (Int32 × mH) := (gFi [2] 5 h r0).bind fun v1 => bR (f_X1_isOf v1 x1 h) fun a2 g2 => rZ a2 g2
theorem t_X3_isVeiled {G : xG} (C0 : xC) {l : Launch} {r0 : Nat} {x1 : Int32} (h : mH) {o : Int32 × mH} (H : f_X3_isVeiled r0 x1 h = some o) : XR G l mi_X3_isVeiled [.ref r0, .int x1] h (some (.int o.1)) o.2 := by
  refine XR.of C0 (by decide) (Nat.le_of_ble_eq_true rfl) (fun C _ _ _ hE => ?_)
  show X G C mi_X3_isVeiled 0 [(0, .ref r0), (1, .int x1)] [] h
  unfold f_X3_isVeiled at H
  refine x_aload_n 0 rfl dX3_isVeiled_0 ?_
  obtain ⟨v1, e1, H⟩ := ob H
  refine x_getf fg_X3_71 (gFi_spec e1) dX3_isVeiled_1 ?_
  refine x_iload_n 1 rfl dX3_isVeiled_4 ?_
  obtain ⟨a2, g2, e2, H⟩ := obR H
  refine x_callSN (M' := mi_X1_isOf) (n := 2) (As := [.int v1, .int x1]) (t_X1_isOf C _ e2) md_X1_isOf ⟨Nat.le_of_ble_eq_true rfl, Nat.le_of_ble_eq_true rfl⟩ q1230 q1080 q120 q1081 rfl (Nat.le_of_ble_eq_true rfl) dX3_isVeiled_5 ?_
  obtain ⟨c, rfl⟩ := rZ_spec H
  exact x_iret hE rfl c dX3_isVeiled_8
abbrev mi_X3_meet : xM := (cX3_meet, yX3_meet, 3, none, 1)
theorem md_X3_meet : xMD mi_X3_meet 2 := ⟨by decide, by decide, by decide +kernel⟩
def f_X3_meet (r0 : Nat) (x1 : Int32) (x2 : Int32) (h : mH) : Option (Unit × mH) := (gFr [2] 8 h r0).bind fun v1 => (aI .int h v1 x1).bind fun v2 => (sI .int h v1 x1 (v2 ||| ((1 : Int32) <<< (x2 &&& 31)))).bind fun h3 => (gFr [2] 8 h3 r0).bind fun v4 => (aI .int h3 v4 x2).bind fun v5 => (sI .int h3 v4 x2 (v5 ||| ((1 : Int32) <<< (x1 &&& 31)))).bind fun h6 => some ((), h6)
theorem t_X3_meet {G : xG} (C0 : xC) {l : Launch} {r0 : Nat} {x1 : Int32} {x2 : Int32} (h : mH) {o : Unit × mH} (H : f_X3_meet r0 x1 x2 h = some o) : XR G l mi_X3_meet [.ref r0, .int x1, .int x2] h none o.2 := by
  refine XR.of C0 (by decide) (Nat.le_of_ble_eq_true rfl) (fun C _ _ _ hE => ?_)
  show X G C mi_X3_meet 0 [(0, .ref r0), (1, .int x1), (2, .int x2)] [] h
  unfold f_X3_meet at H
  refine x_aload_n 0 rfl dX3_meet_0 ?_
  obtain ⟨v1, e1, H⟩ := ob H
  refine x_getf fg_X3_18 (gFr_spec e1) dX3_meet_1 ?_
  refine x_iload_n 1 rfl dX3_meet_4 ?_
  refine x_dup2 dX3_meet_5 rfl rfl ?_
  obtain ⟨v2, e2, H⟩ := ob H
  refine x_iald e2 dX3_meet_6 ?_
  refine x_iconst (1 : Int32) dX3_meet_7 ic_1 ?_
  refine x_iload_n 2 rfl dX3_meet_8 ?_
  refine x_ishl dX3_meet_9 ?_
  refine x_ior dX3_meet_10 ?_
  obtain ⟨h3, e3, H⟩ := ob H
  refine x_iast e3 dX3_meet_11 ?_
  refine x_aload_n 0 rfl dX3_meet_12 ?_
  obtain ⟨v4, e4, H⟩ := ob H
  refine x_getf fg_X3_18 (gFr_spec e4) dX3_meet_13 ?_
  refine x_iload_n 2 rfl dX3_meet_16 ?_
  refine x_dup2 dX3_meet_17 rfl rfl ?_
  obtain ⟨v5, e5, H⟩ := ob H
  refine x_iald e5 dX3_meet_18 ?_
  refine x_iconst (1 : Int32) dX3_meet_19 ic_1 ?_
  refine x_iload_n 1 rfl dX3_meet_20 ?_
  refine x_ishl dX3_meet_21 ?_
  refine x_ior dX3_meet_22 ?_
  obtain ⟨h6, e6, H⟩ := ob H
  refine x_iast e6 dX3_meet_23 ?_
  obtain rfl := Option.some.inj H
  exact x_vret hE rfl dX3_meet_24
abbrev mi_X3_buy : xM := (cX3_buy, yX3_buy, 4, none, 5)
theorem md_X3_buy : xMD mi_X3_buy 3 := ⟨by decide, by decide, by decide +kernel⟩
def f_X3_buy (r0 : Nat) (x1 : Int32) (x2 : Int32) (x3 : Int32) (h : mH) : Option (Unit × mH) := (gFr [2] 10 h r0).bind fun v1 => (aI .int h v1 (((5 : Int32) * x3) + x2)).bind fun v2 => (sI .int h v1 (((5 : Int32) * x3) + x2) (v2 - (1 : Int32))).bind fun h3 => (gFr [2] 11 h3 r0).bind fun v4 => (aI .int h3 v4 (((5 : Int32) * x1) + x2)).bind fun v5 => (sI .int h3 v4 (((5 : Int32) * x1) + x2) (v5 - (1 : Int32))).bind fun h6 => (gFr [2] 6 h6 r0).bind fun v7 => (aI .int h6 v7 x1).bind fun v8 => if gC h6 r0 = 2 then bR (f_X3_person r0 x3 h6) fun a9 g9 => (gFr [10] 5 g9 a9).bind fun v10 => (aI .int g9 v10 x2).bind fun v11 => (sI .int g9 v7 x1 (v8 - v11)).bind fun h12 => (gFr [2] 6 h12 r0).bind fun v13 => (aI .int h12 v13 x3).bind fun v14 => if gC h12 r0 = 2 then bR (f_X3_person r0 x3 h12) fun a15 g15 => (gFr [10] 5 g15 a15).bind fun v16 => (aI .int g15 v16 x2).bind fun v17 => (sI .int g15 v13 x3 (v14 + v17)).bind fun h18 => (gFi [2] 2 h18 r0).bind fun v19 => (pF [2] 2 (.int (v19 + (1 : Int32))) h18 r0).bind fun h20 => if gC h20 r0 = 2 then bR (f_X3_isVeiled r0 x1 h20) fun a21 g21 => if a21 = 0 then if gC g21 r0 = 2 then bR (f_X3_isVeiled r0 x3 g21) fun a23 g23 => if a23 = 0 then (gFr [2] 9 g23 r0).bind fun v25 => (aI .int g23 v25 (((7 : Int32) * x1) + x3)).bind fun v26 => (sI .int g23 v25 (((7 : Int32) * x1) + x3) (v26 + (1 : Int32))).bind fun h27 => (gFr [2] 9 h27 r0).bind fun v28 => (aI .int h27 v28 (((7 : Int32) * x3) + x1)).bind fun v29 => (sI .int h27 v28 (((7 : Int32) * x3) + x1) (v29 + (1 : Int32))).bind fun h30 => (gFr [2] 9 h30 r0).bind fun v31 => (aI .int h30 v31 (((7 : Int32) * x1) + x3)).bind fun v32 => (gFr [2] 0 h30 r0).bind fun v33 => (gFi [1] 1 h30 v33).bind fun v34 => if v32 < v34 then some ((), h30) else if gC h30 r0 = 2 then bR (f_X3_meet r0 x1 x3 h30) fun a36 g36 => some ((), g36) else none else some ((), g23) else none else some ((), g21) else none else none else none
theorem t_X3_buy {G : xG} (C0 : xC) {l : Launch} {r0 : Nat} {x1 : Int32} {x2 : Int32} {x3 : Int32} (h : mH) {o : Unit × mH} (H : f_X3_buy r0 x1 x2 x3 h = some o) : XR G l mi_X3_buy [.ref r0, .int x1, .int x2, .int x3] h none o.2 := by
  refine XR.of C0 (by decide) (Nat.le_of_ble_eq_true rfl) (fun C _ _ _ hE => ?_)
  show X G C mi_X3_buy 0 [(0, .ref r0), (1, .int x1), (2, .int x2), (3, .int x3)] [] h
  unfold f_X3_buy at H
  refine x_aload_n 0 rfl dX3_buy_0 ?_
  obtain ⟨v1, e1, H⟩ := ob H
  refine x_getf fg_X3_24 (gFr_spec e1) dX3_buy_1 ?_
  refine x_iconst (5 : Int32) dX3_buy_4 ic_5 ?_
  refine x_iload_n 3 rfl dX3_buy_5 ?_
  refine x_imul dX3_buy_6 ?_
  refine x_iload_n 2 rfl dX3_buy_7 ?_
  refine x_iadd dX3_buy_8 ?_
  refine x_dup2 dX3_buy_9 rfl rfl ?_
  obtain ⟨v2, e2, H⟩ := ob H
  refine x_iald e2 dX3_buy_10 ?_
  refine x_iconst (1 : Int32) dX3_buy_11 ic_1 ?_
  refine x_isub dX3_buy_12 ?_
  obtain ⟨h3, e3, H⟩ := ob H
  refine x_iast e3 dX3_buy_13 ?_
  refine x_aload_n 0 rfl dX3_buy_14 ?_
  obtain ⟨v4, e4, H⟩ := ob H
  refine x_getf fg_X3_27 (gFr_spec e4) dX3_buy_15 ?_
  refine x_iconst (5 : Int32) dX3_buy_18 ic_5 ?_
  refine x_iload_n 1 rfl dX3_buy_19 ?_
  refine x_imul dX3_buy_20 ?_
  refine x_iload_n 2 rfl dX3_buy_21 ?_
  refine x_iadd dX3_buy_22 ?_
  refine x_dup2 dX3_buy_23 rfl rfl ?_
  obtain ⟨v5, e5, H⟩ := ob H
  refine x_iald e5 dX3_buy_24 ?_
  refine x_iconst (1 : Int32) dX3_buy_25 ic_1 ?_
  refine x_isub dX3_buy_26 ?_
  obtain ⟨h6, e6, H⟩ := ob H
  refine x_iast e6 dX3_buy_27 ?_
  refine x_aload_n 0 rfl dX3_buy_28 ?_
  obtain ⟨v7, e7, H⟩ := ob H
  refine x_getf fg_X3_9 (gFr_spec e7) dX3_buy_29 ?_
  refine x_iload_n 1 rfl dX3_buy_32 ?_
  refine x_dup2 dX3_buy_33 rfl rfl ?_
  obtain ⟨v8, e8, H⟩ := ob H
  refine x_iald e8 dX3_buy_34 ?_
  refine x_aload_n 0 rfl dX3_buy_35 ?_
  refine x_iload_n 3 rfl dX3_buy_36 ?_
  obtain ⟨c9, H⟩ := oit H
  obtain ⟨a9, g9, e9, H⟩ := obR H
  refine x_callV (M' := mi_X3_person) (n := 1) (As := [.int x3]) (t_X3_person C _ e9) c9 rfl rfl md_X3_person ⟨Nat.le_of_ble_eq_true rfl, Nat.le_of_ble_eq_true rfl⟩ q320 q321 q322 q125 q323 rfl (Nat.le_of_ble_eq_true rfl) dX3_buy_37 ?_
  obtain ⟨v10, e10, H⟩ := ob H
  refine x_getf fg_X3_138 (gFr_spec e10) dX3_buy_40 ?_
  refine x_iload_n 2 rfl dX3_buy_43 ?_
  obtain ⟨v11, e11, H⟩ := ob H
  refine x_iald e11 dX3_buy_44 ?_
  refine x_isub dX3_buy_45 ?_
  obtain ⟨h12, e12, H⟩ := ob H
  refine x_iast e12 dX3_buy_46 ?_
  refine x_aload_n 0 rfl dX3_buy_47 ?_
  obtain ⟨v13, e13, H⟩ := ob H
  refine x_getf fg_X3_9 (gFr_spec e13) dX3_buy_48 ?_
  refine x_iload_n 3 rfl dX3_buy_51 ?_
  refine x_dup2 dX3_buy_52 rfl rfl ?_
  obtain ⟨v14, e14, H⟩ := ob H
  refine x_iald e14 dX3_buy_53 ?_
  refine x_aload_n 0 rfl dX3_buy_54 ?_
  refine x_iload_n 3 rfl dX3_buy_55 ?_
  obtain ⟨c15, H⟩ := oit H
  obtain ⟨a15, g15, e15, H⟩ := obR H
  refine x_callV (M' := mi_X3_person) (n := 1) (As := [.int x3]) (t_X3_person C _ e15) c15 rfl rfl md_X3_person ⟨Nat.le_of_ble_eq_true rfl, Nat.le_of_ble_eq_true rfl⟩ q320 q321 q322 q125 q323 rfl (Nat.le_of_ble_eq_true rfl) dX3_buy_56 ?_
  obtain ⟨v16, e16, H⟩ := ob H
  refine x_getf fg_X3_138 (gFr_spec e16) dX3_buy_59 ?_
  refine x_iload_n 2 rfl dX3_buy_62 ?_
  obtain ⟨v17, e17, H⟩ := ob H
  refine x_iald e17 dX3_buy_63 ?_
  refine x_iadd dX3_buy_64 ?_
  obtain ⟨h18, e18, H⟩ := ob H
  refine x_iast e18 dX3_buy_65 ?_
  refine x_aload_n 0 rfl dX3_buy_66 ?_
  refine x_dup dX3_buy_67 rfl ?_
  obtain ⟨v19, e19, H⟩ := ob H
  refine x_getf fg_X3_38 (gFi_spec e19) dX3_buy_68 ?_
  refine x_iconst (1 : Int32) dX3_buy_71 ic_1 ?_
  refine x_iadd dX3_buy_72 ?_
  obtain ⟨h20, e20, H⟩ := ob H
  refine x_putf (fp_X3_38 _) rfl rfl e20 dX3_buy_73 ?_
  refine x_aload_n 0 rfl dX3_buy_76 ?_
  refine x_iload_n 1 rfl dX3_buy_77 ?_
  obtain ⟨c21, H⟩ := oit H
  obtain ⟨a21, g21, e21, H⟩ := obR H
  refine x_callV (M' := mi_X3_isVeiled) (n := 1) (As := [.int x1]) (t_X3_isVeiled C _ e21) c21 rfl rfl md_X3_isVeiled ⟨Nat.le_of_ble_eq_true rfl, Nat.le_of_ble_eq_true rfl⟩ q1247 q1248 q1249 q125 q1250 rfl (Nat.le_of_ble_eq_true rfl) dX3_buy_78 ?_
  refine x_if_ne 92 dX3_buy_81 (by decide) (fun c22 => ?_) (fun c22 => ?_)
  · rw [if_neg c22] at H
    obtain rfl := Option.some.inj H
    exact x_vret hE rfl dX3_buy_92
  · rw [if_pos c22] at H
    refine x_aload_n 0 rfl dX3_buy_84 ?_
    refine x_iload_n 3 rfl dX3_buy_85 ?_
    obtain ⟨c23, H⟩ := oit H
    obtain ⟨a23, g23, e23, H⟩ := obR H
    refine x_callV (M' := mi_X3_isVeiled) (n := 1) (As := [.int x3]) (t_X3_isVeiled C _ e23) c23 rfl rfl md_X3_isVeiled ⟨Nat.le_of_ble_eq_true rfl, Nat.le_of_ble_eq_true rfl⟩ q1247 q1248 q1249 q125 q1250 rfl (Nat.le_of_ble_eq_true rfl) dX3_buy_86 ?_
    refine x_if_eq 93 dX3_buy_89 (by decide) (fun c24 => ?_) (fun c24 => ?_)
    · rw [if_pos c24] at H
      refine x_aload_n 0 rfl dX3_buy_93 ?_
      obtain ⟨v25, e25, H⟩ := ob H
      refine x_getf fg_X3_21 (gFr_spec e25) dX3_buy_94 ?_
      refine x_bipush (7 : Int32) dX3_buy_97 bi_7 ?_
      refine x_iload_n 1 rfl dX3_buy_99 ?_
      refine x_imul dX3_buy_100 ?_
      refine x_iload_n 3 rfl dX3_buy_101 ?_
      refine x_iadd dX3_buy_102 ?_
      refine x_dup2 dX3_buy_103 rfl rfl ?_
      obtain ⟨v26, e26, H⟩ := ob H
      refine x_iald e26 dX3_buy_104 ?_
      refine x_iconst (1 : Int32) dX3_buy_105 ic_1 ?_
      refine x_iadd dX3_buy_106 ?_
      obtain ⟨h27, e27, H⟩ := ob H
      refine x_iast e27 dX3_buy_107 ?_
      refine x_aload_n 0 rfl dX3_buy_108 ?_
      obtain ⟨v28, e28, H⟩ := ob H
      refine x_getf fg_X3_21 (gFr_spec e28) dX3_buy_109 ?_
      refine x_bipush (7 : Int32) dX3_buy_112 bi_7 ?_
      refine x_iload_n 3 rfl dX3_buy_114 ?_
      refine x_imul dX3_buy_115 ?_
      refine x_iload_n 1 rfl dX3_buy_116 ?_
      refine x_iadd dX3_buy_117 ?_
      refine x_dup2 dX3_buy_118 rfl rfl ?_
      obtain ⟨v29, e29, H⟩ := ob H
      refine x_iald e29 dX3_buy_119 ?_
      refine x_iconst (1 : Int32) dX3_buy_120 ic_1 ?_
      refine x_iadd dX3_buy_121 ?_
      obtain ⟨h30, e30, H⟩ := ob H
      refine x_iast e30 dX3_buy_122 ?_
      refine x_aload_n 0 rfl dX3_buy_123 ?_
      obtain ⟨v31, e31, H⟩ := ob H
      refine x_getf fg_X3_21 (gFr_spec e31) dX3_buy_124 ?_
      refine x_bipush (7 : Int32) dX3_buy_127 bi_7 ?_
      refine x_iload_n 1 rfl dX3_buy_129 ?_
      refine x_imul dX3_buy_130 ?_
      refine x_iload_n 3 rfl dX3_buy_131 ?_
      refine x_iadd dX3_buy_132 ?_
      obtain ⟨v32, e32, H⟩ := ob H
      refine x_iald e32 dX3_buy_133 ?_
      refine x_aload_n 0 rfl dX3_buy_134 ?_
      obtain ⟨v33, e33, H⟩ := ob H
      refine x_getf fg_X3_30 (gFr_spec e33) dX3_buy_135 ?_
      obtain ⟨v34, e34, H⟩ := ob H
      refine x_getf fg_X3_141 (gFi_spec e34) dX3_buy_138 ?_
      refine x_icmp_lt 150 dX3_buy_141 (by decide) (fun c35 => ?_) (fun c35 => ?_)
      · rw [if_pos c35] at H
        obtain rfl := Option.some.inj H
        exact x_vret hE rfl dX3_buy_150
      · rw [if_neg c35] at H
        refine x_aload_n 0 rfl dX3_buy_144 ?_
        refine x_iload_n 1 rfl dX3_buy_145 ?_
        refine x_iload_n 3 rfl dX3_buy_146 ?_
        obtain ⟨c36, H⟩ := oit H
        obtain ⟨a36, g36, e36, H⟩ := obR H
        refine x_callV (M' := mi_X3_meet) (n := 2) (As := [.int x1, .int x3]) (t_X3_meet C _ e36) c36 rfl rfl md_X3_meet ⟨Nat.le_of_ble_eq_true rfl, Nat.le_of_ble_eq_true rfl⟩ q1255 q1256 q1257 q125 q1258 rfl (Nat.le_of_ble_eq_true rfl) dX3_buy_147 ?_
        obtain rfl := Option.some.inj H
        exact x_vret hE rfl dX3_buy_150
    · rw [if_neg c24] at H
      obtain rfl := Option.some.inj H
      exact x_vret hE rfl dX3_buy_92
abbrev mi_X3_isHome : xM := (cX3_isHome, yX3_isHome, 2, some .boolean, 2)
theorem md_X3_isHome : xMD mi_X3_isHome 1 := ⟨by decide, by decide, by decide +kernel⟩
def f_X3_isHome (r0 : Nat) (x1 : Int32) (h : mH) : Option (Int32 × mH) := (gFi [2] 4 h r0).bind fun v1 => bR (f_X1_isOf v1 x1 h) fun a2 g2 => rZ a2 g2
theorem t_X3_isHome {G : xG} (C0 : xC) {l : Launch} {r0 : Nat} {x1 : Int32} (h : mH) {o : Int32 × mH} (H : f_X3_isHome r0 x1 h = some o) : XR G l mi_X3_isHome [.ref r0, .int x1] h (some (.int o.1)) o.2 := by
  refine XR.of C0 (by decide) (Nat.le_of_ble_eq_true rfl) (fun C _ _ _ hE => ?_)
  show X G C mi_X3_isHome 0 [(0, .ref r0), (1, .int x1)] [] h
  unfold f_X3_isHome at H
  refine x_aload_n 0 rfl dX3_isHome_0 ?_
  obtain ⟨v1, e1, H⟩ := ob H
  refine x_getf fg_X3_68 (gFi_spec e1) dX3_isHome_1 ?_
  refine x_iload_n 1 rfl dX3_isHome_4 ?_
  obtain ⟨a2, g2, e2, H⟩ := obR H
  refine x_callSN (M' := mi_X1_isOf) (n := 2) (As := [.int v1, .int x1]) (t_X1_isOf C _ e2) md_X1_isOf ⟨Nat.le_of_ble_eq_true rfl, Nat.le_of_ble_eq_true rfl⟩ q1230 q1080 q120 q1081 rfl (Nat.le_of_ble_eq_true rfl) dX3_isHome_5 ?_
  obtain ⟨c, rfl⟩ := rZ_spec H
  exact x_iret hE rfl c dX3_isHome_8
abbrev mi_X3_whyBuy : xM := (cX3_whyBuy, yX3_whyBuy, 4, some .int, 8)
theorem md_X3_whyBuy : xMD mi_X3_whyBuy 3 := ⟨by decide, by decide, by decide +kernel⟩
def f_X3_whyBuy_b52 (r0 : Nat) (x1 : Int32) (x2 : Int32) (x3 : Int32) (h : mH) : Option (Int32 × mH) := (gFr [2] 10 h r0).bind fun v8 => (aI .int h v8 (((5 : Int32) * x3) + x2)).bind fun v9 => if v9 = 0 then some ((4 : Int32), h) else if gC h r0 = 2 then bR (f_X3_person r0 x3 h) fun a11 g11 => (gFr [10] 5 g11 a11).bind fun v12 => (aI .int g11 v12 x2).bind fun v13 => (gFr [2] 6 g11 r0).bind fun v14 => (aI .int g11 v14 x1).bind fun v15 => if v13 ≤ v15 then (gFr [2] 11 g11 r0).bind fun v17 => (aI .int g11 v17 (((5 : Int32) * x1) + x2)).bind fun v18 => if v18 = 0 then some ((6 : Int32), g11) else some ((0 : Int32), g11) else some ((5 : Int32), g11) else none
theorem t_X3_whyBuy_b52 {G : xG} {C : xC} {o : Int32 × mH} (hE : xEnd G C (some (.int o.1)) o.2) (r0 : Nat) (x1 : Int32) (x2 : Int32) (x3 : Int32) (h : mH) (H : f_X3_whyBuy_b52 r0 x1 x2 x3 h = some o) : X G C mi_X3_whyBuy 52 [(0, .ref r0), (1, .int x1), (2, .int x2), (3, .int x3)] [] h := by
  unfold f_X3_whyBuy_b52 at H
  refine x_aload_n 0 rfl dX3_whyBuy_52 ?_
  obtain ⟨v8, e8, H⟩ := ob H
  refine x_getf fg_X3_24 (gFr_spec e8) dX3_whyBuy_53 ?_
  refine x_iconst (5 : Int32) dX3_whyBuy_56 ic_5 ?_
  refine x_iload_n 3 rfl dX3_whyBuy_57 ?_
  refine x_imul dX3_whyBuy_58 ?_
  refine x_iload_n 2 rfl dX3_whyBuy_59 ?_
  refine x_iadd dX3_whyBuy_60 ?_
  obtain ⟨v9, e9, H⟩ := ob H
  refine x_iald e9 dX3_whyBuy_61 ?_
  refine x_if_ne 67 dX3_whyBuy_62 (by decide) (fun c10 => ?_) (fun c10 => ?_)
  · rw [if_neg c10] at H
    refine x_aload_n 0 rfl dX3_whyBuy_67 ?_
    refine x_iload_n 3 rfl dX3_whyBuy_68 ?_
    obtain ⟨c11, H⟩ := oit H
    obtain ⟨a11, g11, e11, H⟩ := obR H
    refine x_callV (M' := mi_X3_person) (n := 1) (As := [.int x3]) (t_X3_person C _ e11) c11 rfl rfl md_X3_person ⟨Nat.le_of_ble_eq_true rfl, Nat.le_of_ble_eq_true rfl⟩ q320 q321 q322 q125 q323 rfl (Nat.le_of_ble_eq_true rfl) dX3_whyBuy_69 ?_
    obtain ⟨v12, e12, H⟩ := ob H
    refine x_getf fg_X3_138 (gFr_spec e12) dX3_whyBuy_72 ?_
    refine x_iload_n 2 rfl dX3_whyBuy_75 ?_
    obtain ⟨v13, e13, H⟩ := ob H
    refine x_iald e13 dX3_whyBuy_76 ?_
    refine x_aload_n 0 rfl dX3_whyBuy_77 ?_
    obtain ⟨v14, e14, H⟩ := ob H
    refine x_getf fg_X3_9 (gFr_spec e14) dX3_whyBuy_78 ?_
    refine x_iload_n 1 rfl dX3_whyBuy_81 ?_
    obtain ⟨v15, e15, H⟩ := ob H
    refine x_iald e15 dX3_whyBuy_82 ?_
    refine x_icmp_le 90 dX3_whyBuy_83 (by decide) (fun c16 => ?_) (fun c16 => ?_)
    · rw [if_pos c16] at H
      refine x_aload_n 0 rfl dX3_whyBuy_90 ?_
      obtain ⟨v17, e17, H⟩ := ob H
      refine x_getf fg_X3_27 (gFr_spec e17) dX3_whyBuy_91 ?_
      refine x_iconst (5 : Int32) dX3_whyBuy_94 ic_5 ?_
      refine x_iload_n 1 rfl dX3_whyBuy_95 ?_
      refine x_imul dX3_whyBuy_96 ?_
      refine x_iload_n 2 rfl dX3_whyBuy_97 ?_
      refine x_iadd dX3_whyBuy_98 ?_
      obtain ⟨v18, e18, H⟩ := ob H
      refine x_iald e18 dX3_whyBuy_99 ?_
      refine x_if_ne 108 dX3_whyBuy_100 (by decide) (fun c19 => ?_) (fun c19 => ?_)
      · rw [if_neg c19] at H
        refine x_iconst (0 : Int32) dX3_whyBuy_108 ic_0 ?_
        obtain rfl := Option.some.inj H
        exact x_iret hE rfl rfl dX3_whyBuy_109
      · rw [if_pos c19] at H
        refine x_bipush (6 : Int32) dX3_whyBuy_103 bi_6 ?_
        refine x_goto (tgt := 109) dX3_whyBuy_105 (by decide) ?_
        obtain rfl := Option.some.inj H
        exact x_iret hE rfl rfl dX3_whyBuy_109
    · rw [if_neg c16] at H
      refine x_iconst (5 : Int32) dX3_whyBuy_86 ic_5 ?_
      refine x_goto (tgt := 109) dX3_whyBuy_87 (by decide) ?_
      obtain rfl := Option.some.inj H
      exact x_iret hE rfl rfl dX3_whyBuy_109
  · rw [if_pos c10] at H
    refine x_iconst (4 : Int32) dX3_whyBuy_65 ic_4 ?_
    obtain rfl := Option.some.inj H
    exact x_iret hE rfl rfl dX3_whyBuy_66
def f_X3_whyBuy (r0 : Nat) (x1 : Int32) (x2 : Int32) (x3 : Int32) (h : mH) : Option (Int32 × mH) := if x1 = x3 then some ((1 : Int32), h) else if gC h r0 = 2 then bR (f_X3_isHome r0 x1 h) fun a2 g2 => if a2 = 0 then if gC g2 r0 = 2 then bR (f_X3_isHome r0 x3 g2) fun a4 g4 => if a4 = 0 then if gC g4 r0 = 2 then bR (f_X3_may r0 x1 x3 g4) fun a6 g6 => if a6 = 0 then if gC g6 r0 = 2 then bR (f_X3_isVeiled r0 x1 g6) fun a20 g20 => if a20 = 0 then if gC g20 r0 = 2 then bR (f_X3_isVeiled r0 x3 g20) fun a22 g22 => if a22 = 0 then some ((3 : Int32), g22) else f_X3_whyBuy_b52 r0 x1 x2 x3 g22 else none else f_X3_whyBuy_b52 r0 x1 x2 x3 g20 else none else f_X3_whyBuy_b52 r0 x1 x2 x3 g6 else none else some ((2 : Int32), g4) else none else some ((2 : Int32), g2) else none
theorem t_X3_whyBuy {G : xG} (C0 : xC) {l : Launch} {r0 : Nat} {x1 : Int32} {x2 : Int32} {x3 : Int32} (h : mH) {o : Int32 × mH} (H : f_X3_whyBuy r0 x1 x2 x3 h = some o) : XR G l mi_X3_whyBuy [.ref r0, .int x1, .int x2, .int x3] h (some (.int o.1)) o.2 := by
  refine XR.of C0 (by decide) (Nat.le_of_ble_eq_true rfl) (fun C _ _ _ hE => ?_)
  show X G C mi_X3_whyBuy 0 [(0, .ref r0), (1, .int x1), (2, .int x2), (3, .int x3)] [] h
  unfold f_X3_whyBuy at H
  refine x_iload_n 1 rfl dX3_whyBuy_0 ?_
  refine x_iload_n 3 rfl dX3_whyBuy_1 ?_
  refine x_icmp_ne 7 dX3_whyBuy_2 (by decide) (fun c1 => ?_) (fun c1 => ?_)
  · rw [if_neg c1] at H
    refine x_aload_n 0 rfl dX3_whyBuy_7 ?_
    refine x_iload_n 1 rfl dX3_whyBuy_8 ?_
    obtain ⟨c2, H⟩ := oit H
    obtain ⟨a2, g2, e2, H⟩ := obR H
    refine x_callV (M' := mi_X3_isHome) (n := 1) (As := [.int x1]) (t_X3_isHome C _ e2) c2 rfl rfl md_X3_isHome ⟨Nat.le_of_ble_eq_true rfl, Nat.le_of_ble_eq_true rfl⟩ q1226 q1227 q1228 q125 q1229 rfl (Nat.le_of_ble_eq_true rfl) dX3_whyBuy_9 ?_
    refine x_if_ne 23 dX3_whyBuy_12 (by decide) (fun c3 => ?_) (fun c3 => ?_)
    · rw [if_neg c3] at H
      refine x_iconst (2 : Int32) dX3_whyBuy_23 ic_2 ?_
      obtain rfl := Option.some.inj H
      exact x_iret hE rfl rfl dX3_whyBuy_24
    · rw [if_pos c3] at H
      refine x_aload_n 0 rfl dX3_whyBuy_15 ?_
      refine x_iload_n 3 rfl dX3_whyBuy_16 ?_
      obtain ⟨c4, H⟩ := oit H
      obtain ⟨a4, g4, e4, H⟩ := obR H
      refine x_callV (M' := mi_X3_isHome) (n := 1) (As := [.int x3]) (t_X3_isHome C _ e4) c4 rfl rfl md_X3_isHome ⟨Nat.le_of_ble_eq_true rfl, Nat.le_of_ble_eq_true rfl⟩ q1226 q1227 q1228 q125 q1229 rfl (Nat.le_of_ble_eq_true rfl) dX3_whyBuy_17 ?_
      refine x_if_eq 25 dX3_whyBuy_20 (by decide) (fun c5 => ?_) (fun c5 => ?_)
      · rw [if_pos c5] at H
        refine x_aload_n 0 rfl dX3_whyBuy_25 ?_
        refine x_iload_n 1 rfl dX3_whyBuy_26 ?_
        refine x_iload_n 3 rfl dX3_whyBuy_27 ?_
        obtain ⟨c6, H⟩ := oit H
        obtain ⟨a6, g6, e6, H⟩ := obR H
        refine x_callV (M' := mi_X3_may) (n := 2) (As := [.int x1, .int x3]) (t_X3_may C _ e6) c6 rfl rfl md_X3_may ⟨Nat.le_of_ble_eq_true rfl, Nat.le_of_ble_eq_true rfl⟩ q1231 q1232 q1233 q125 q1234 rfl (Nat.le_of_ble_eq_true rfl) dX3_whyBuy_28 ?_
        refine x_if_ne 52 dX3_whyBuy_31 (by decide) (fun c7 => ?_) (fun c7 => ?_)
        · rw [if_neg c7] at H
          exact t_X3_whyBuy_b52 hE _ _ _ _ _ H
        · rw [if_pos c7] at H
          refine x_aload_n 0 rfl dX3_whyBuy_34 ?_
          refine x_iload_n 1 rfl dX3_whyBuy_35 ?_
          obtain ⟨c20, H⟩ := oit H
          obtain ⟨a20, g20, e20, H⟩ := obR H
          refine x_callV (M' := mi_X3_isVeiled) (n := 1) (As := [.int x1]) (t_X3_isVeiled C _ e20) c20 rfl rfl md_X3_isVeiled ⟨Nat.le_of_ble_eq_true rfl, Nat.le_of_ble_eq_true rfl⟩ q1247 q1248 q1249 q125 q1250 rfl (Nat.le_of_ble_eq_true rfl) dX3_whyBuy_36 ?_
          refine x_if_ne 52 dX3_whyBuy_39 (by decide) (fun c21 => ?_) (fun c21 => ?_)
          · rw [if_neg c21] at H
            exact t_X3_whyBuy_b52 hE _ _ _ _ _ H
          · rw [if_pos c21] at H
            refine x_aload_n 0 rfl dX3_whyBuy_42 ?_
            refine x_iload_n 3 rfl dX3_whyBuy_43 ?_
            obtain ⟨c22, H⟩ := oit H
            obtain ⟨a22, g22, e22, H⟩ := obR H
            refine x_callV (M' := mi_X3_isVeiled) (n := 1) (As := [.int x3]) (t_X3_isVeiled C _ e22) c22 rfl rfl md_X3_isVeiled ⟨Nat.le_of_ble_eq_true rfl, Nat.le_of_ble_eq_true rfl⟩ q1247 q1248 q1249 q125 q1250 rfl (Nat.le_of_ble_eq_true rfl) dX3_whyBuy_44 ?_
            refine x_if_ne 52 dX3_whyBuy_47 (by decide) (fun c23 => ?_) (fun c23 => ?_)
            · rw [if_neg c23] at H
              exact t_X3_whyBuy_b52 hE _ _ _ _ _ H
            · rw [if_pos c23] at H
              refine x_iconst (3 : Int32) dX3_whyBuy_50 ic_3 ?_
              obtain rfl := Option.some.inj H
              exact x_iret hE rfl rfl dX3_whyBuy_51
      · rw [if_neg c5] at H
        refine x_iconst (2 : Int32) dX3_whyBuy_23 ic_2 ?_
        obtain rfl := Option.some.inj H
        exact x_iret hE rfl rfl dX3_whyBuy_24
  · rw [if_pos c1] at H
    refine x_iconst (1 : Int32) dX3_whyBuy_5 ic_1 ?_
    obtain rfl := Option.some.inj H
    exact x_iret hE rfl rfl dX3_whyBuy_6
abbrev mi_X13_does : xM := (cX13_does, yX13_does, 3, some .int, 9)
theorem md_X13_does : xMD mi_X13_does 1 := ⟨by decide, by decide, by decide +kernel⟩
def f_X13_does (r0 : Nat) (r1 : Nat) (h : mH) : Option (Int32 × mH) := (gFi [11] 1 h r0).bind fun v1 => (gFi [11] 2 h r0).bind fun v2 => (gFi [11] 0 h r0).bind fun v3 => if gC h r1 = 2 then bR (f_X3_whyBuy r1 v1 v2 v3 h) fun a4 g4 => if a4 = 0 then (gFi [11] 1 g4 r0).bind fun v6 => (gFi [11] 2 g4 r0).bind fun v7 => (gFi [11] 0 g4 r0).bind fun v8 => if gC g4 r1 = 2 then bR (f_X3_buy r1 v6 v7 v8 g4) fun a9 g9 => some (a4, g9) else none else some (a4, g4) else none
theorem t_X13_does {G : xG} (C0 : xC) {l : Launch} {r0 : Nat} {r1 : Nat} (h : mH) {o : Int32 × mH} (H : f_X13_does r0 r1 h = some o) : XR G l mi_X13_does [.ref r0, .ref r1] h (some (.int o.1)) o.2 := by
  refine XR.of C0 (by decide) (Nat.le_of_ble_eq_true rfl) (fun C _ _ _ hE => ?_)
  show X G C mi_X13_does 0 [(0, .ref r0), (1, .ref r1)] [] h
  unfold f_X13_does at H
  refine x_aload_n 1 rfl dX13_does_0 ?_
  refine x_aload_n 0 rfl dX13_does_1 ?_
  obtain ⟨v1, e1, H⟩ := ob H
  refine x_getf fg_X13_13 (gFi_spec e1) dX13_does_2 ?_
  refine x_aload_n 0 rfl dX13_does_5 ?_
  obtain ⟨v2, e2, H⟩ := ob H
  refine x_getf fg_X13_7 (gFi_spec e2) dX13_does_6 ?_
  refine x_aload_n 0 rfl dX13_does_9 ?_
  obtain ⟨v3, e3, H⟩ := ob H
  refine x_getf fg_X13_16 (gFi_spec e3) dX13_does_10 ?_
  obtain ⟨c4, H⟩ := oit H
  obtain ⟨a4, g4, e4, H⟩ := obR H
  refine x_callV (M' := mi_X3_whyBuy) (n := 3) (As := [.int v1, .int v2, .int v3]) (t_X3_whyBuy C _ e4) c4 rfl rfl md_X3_whyBuy ⟨Nat.le_of_ble_eq_true rfl, Nat.le_of_ble_eq_true rfl⟩ q1222 q1223 q1224 q125 q1225 rfl (Nat.le_of_ble_eq_true rfl) dX13_does_13 ?_
  refine x_istore_n [1, 2, 0] dX13_does_16 (by decide) rfl ?_
  refine x_iload_n 2 rfl dX13_does_17 ?_
  refine x_if_ne 37 dX13_does_18 (by decide) (fun c5 => ?_) (fun c5 => ?_)
  · rw [if_neg c5] at H
    refine x_iload_n 2 rfl dX13_does_37 ?_
    obtain rfl := Option.some.inj H
    exact x_iret hE rfl rfl dX13_does_38
  · rw [if_pos c5] at H
    refine x_aload_n 1 rfl dX13_does_21 ?_
    refine x_aload_n 0 rfl dX13_does_22 ?_
    obtain ⟨v6, e6, H⟩ := ob H
    refine x_getf fg_X13_13 (gFi_spec e6) dX13_does_23 ?_
    refine x_aload_n 0 rfl dX13_does_26 ?_
    obtain ⟨v7, e7, H⟩ := ob H
    refine x_getf fg_X13_7 (gFi_spec e7) dX13_does_27 ?_
    refine x_aload_n 0 rfl dX13_does_30 ?_
    obtain ⟨v8, e8, H⟩ := ob H
    refine x_getf fg_X13_16 (gFi_spec e8) dX13_does_31 ?_
    obtain ⟨c9, H⟩ := oit H
    obtain ⟨a9, g9, e9, H⟩ := obR H
    refine x_callV (M' := mi_X3_buy) (n := 3) (As := [.int v6, .int v7, .int v8]) (t_X3_buy C _ e9) c9 rfl rfl md_X3_buy ⟨Nat.le_of_ble_eq_true rfl, Nat.le_of_ble_eq_true rfl⟩ q1251 q1252 q1253 q125 q1254 rfl (Nat.le_of_ble_eq_true rfl) dX13_does_34 ?_
    refine x_iload_n 2 rfl dX13_does_37 ?_
    obtain rfl := Option.some.inj H
    exact x_iret hE rfl rfl dX13_does_38
abbrev mi_X13_init : xM := (cX13_init, yX13_init, 4, none, 3)
theorem md_X13_init : xMD mi_X13_init 3 := ⟨by decide, by decide, by decide +kernel⟩
def f_X13_init (r0 : Nat) (x1 : Int32) (x2 : Int32) (x3 : Int32) (h : mH) : Option (Unit × mH) := if 6 ≤ r0 then bR (f_X12_init r0 x1 x3 h) fun a1 g1 => (pF [11] 2 (.int x2) g1 r0).bind fun h2 => some ((), h2) else none
theorem t_X13_init {G : xG} (C0 : xC) {l : Launch} {r0 : Nat} {x1 : Int32} {x2 : Int32} {x3 : Int32} (h : mH) {o : Unit × mH} (H : f_X13_init r0 x1 x2 x3 h = some o) : XR G l mi_X13_init [.ref r0, .int x1, .int x2, .int x3] h none o.2 := by
  refine XR.of C0 (by decide) (Nat.le_of_ble_eq_true rfl) (fun C _ _ _ hE => ?_)
  show X G C mi_X13_init 0 [(0, .ref r0), (1, .int x1), (2, .int x2), (3, .int x3)] [] h
  unfold f_X13_init at H
  refine x_aload_n 0 rfl dX13_init_0 ?_
  refine x_iload_n 1 rfl dX13_init_1 ?_
  refine x_iload_n 3 rfl dX13_init_2 ?_
  obtain ⟨c1, H⟩ := oit H
  obtain ⟨a1, g1, e1, H⟩ := obR H
  refine x_callI (M' := mi_X12_init) (n := 2) (As := [.int x1, .int x3]) (t_X12_init C _ e1) c1 md_X12_init ⟨Nat.le_of_ble_eq_true rfl, Nat.le_of_ble_eq_true rfl⟩ rfl rfl q1174 q1175 q150 q1176 rfl (Nat.le_of_ble_eq_true rfl) dX13_init_3 ?_
  refine x_aload_n 0 rfl dX13_init_6 ?_
  refine x_iload_n 2 rfl dX13_init_7 ?_
  obtain ⟨h2, e2, H⟩ := ob H
  refine x_putf fp_X13_7 rfl rfl e2 dX13_init_8 ?_
  obtain rfl := Option.some.inj H
  exact x_vret hE rfl dX13_init_11
abbrev mi_X3_nod : xM := (cX3_nod, yX3_nod, 3, none, 2)
theorem md_X3_nod : xMD mi_X3_nod 2 := ⟨by decide, by decide, by decide +kernel⟩
def f_X3_nod (r0 : Nat) (x1 : Int32) (x2 : Int32) (h : mH) : Option (Unit × mH) := if gC h r0 = 2 then bR (f_X3_meet r0 x1 x2 h) fun a1 g1 => (gFi [2] 4 g1 r0).bind fun v2 => (pF [2] 4 (.int (v2 ||| ((1 : Int32) <<< (x1 &&& 31)))) g1 r0).bind fun h3 => some ((), h3) else none
theorem t_X3_nod {G : xG} (C0 : xC) {l : Launch} {r0 : Nat} {x1 : Int32} {x2 : Int32} (h : mH) {o : Unit × mH} (H : f_X3_nod r0 x1 x2 h = some o) : XR G l mi_X3_nod [.ref r0, .int x1, .int x2] h none o.2 := by
  refine XR.of C0 (by decide) (Nat.le_of_ble_eq_true rfl) (fun C _ _ _ hE => ?_)
  show X G C mi_X3_nod 0 [(0, .ref r0), (1, .int x1), (2, .int x2)] [] h
  unfold f_X3_nod at H
  refine x_aload_n 0 rfl dX3_nod_0 ?_
  refine x_iload_n 1 rfl dX3_nod_1 ?_
  refine x_iload_n 2 rfl dX3_nod_2 ?_
  obtain ⟨c1, H⟩ := oit H
  obtain ⟨a1, g1, e1, H⟩ := obR H
  refine x_callV (M' := mi_X3_meet) (n := 2) (As := [.int x1, .int x2]) (t_X3_meet C _ e1) c1 rfl rfl md_X3_meet ⟨Nat.le_of_ble_eq_true rfl, Nat.le_of_ble_eq_true rfl⟩ q1255 q1256 q1257 q125 q1258 rfl (Nat.le_of_ble_eq_true rfl) dX3_nod_3 ?_
  refine x_aload_n 0 rfl dX3_nod_6 ?_
  refine x_dup dX3_nod_7 rfl ?_
  obtain ⟨v2, e2, H⟩ := ob H
  refine x_getf fg_X3_68 (gFi_spec e2) dX3_nod_8 ?_
  refine x_iconst (1 : Int32) dX3_nod_11 ic_1 ?_
  refine x_iload_n 1 rfl dX3_nod_12 ?_
  refine x_ishl dX3_nod_13 ?_
  refine x_ior dX3_nod_14 ?_
  obtain ⟨h3, e3, H⟩ := ob H
  refine x_putf (fp_X3_68 _) rfl rfl e3 dX3_nod_15 ?_
  obtain rfl := Option.some.inj H
  exact x_vret hE rfl dX3_nod_18
abbrev mi_X3_whyNod : xM := (cX3_whyNod, yX3_whyNod, 3, some .int, 7)
theorem md_X3_whyNod : xMD mi_X3_whyNod 2 := ⟨by decide, by decide, by decide +kernel⟩
def f_X3_whyNod_b25 (h : mH) : Option (Int32 × mH) := some ((2 : Int32), h)
theorem t_X3_whyNod_b25 {G : xG} {C : xC} {o : Int32 × mH} (hE : xEnd G C (some (.int o.1)) o.2) (h : mH) (H : f_X3_whyNod_b25 h = some o) : X G C mi_X3_whyNod 25 [] [] h := by
  unfold f_X3_whyNod_b25 at H
  refine x_iconst (2 : Int32) dX3_whyNod_25 ic_2 ?_
  refine x_goto (tgt := 43) dX3_whyNod_26 (by decide) ?_
  obtain rfl := Option.some.inj H
  exact x_iret hE rfl rfl dX3_whyNod_43
def f_X3_whyNod (r0 : Nat) (x1 : Int32) (x2 : Int32) (h : mH) : Option (Int32 × mH) := if x1 = x2 then some ((1 : Int32), h) else if gC h r0 = 2 then bR (f_X3_isHome r0 x1 h) fun a2 g2 => if a2 = 0 then if gC g2 r0 = 2 then bR (f_X3_isHome r0 x2 g2) fun a4 g4 => if a4 = 0 then if gC g4 r0 = 2 then bR (f_X3_know r0 x1 x2 g4) fun a6 g6 => if a6 = 0 then some ((0 : Int32), g6) else some ((3 : Int32), g6) else none else f_X3_whyNod_b25  g4 else none else f_X3_whyNod_b25  g2 else none
theorem t_X3_whyNod {G : xG} (C0 : xC) {l : Launch} {r0 : Nat} {x1 : Int32} {x2 : Int32} (h : mH) {o : Int32 × mH} (H : f_X3_whyNod r0 x1 x2 h = some o) : XR G l mi_X3_whyNod [.ref r0, .int x1, .int x2] h (some (.int o.1)) o.2 := by
  refine XR.of C0 (by decide) (Nat.le_of_ble_eq_true rfl) (fun C _ _ _ hE => ?_)
  show X G C mi_X3_whyNod 0 [(0, .ref r0), (1, .int x1), (2, .int x2)] [] h
  unfold f_X3_whyNod at H
  refine x_iload_n 1 rfl dX3_whyNod_0 ?_
  refine x_iload_n 2 rfl dX3_whyNod_1 ?_
  refine x_icmp_ne 9 dX3_whyNod_2 (by decide) (fun c1 => ?_) (fun c1 => ?_)
  · rw [if_neg c1] at H
    refine x_aload_n 0 rfl dX3_whyNod_9 ?_
    refine x_iload_n 1 rfl dX3_whyNod_10 ?_
    obtain ⟨c2, H⟩ := oit H
    obtain ⟨a2, g2, e2, H⟩ := obR H
    refine x_callV (M' := mi_X3_isHome) (n := 1) (As := [.int x1]) (t_X3_isHome C _ e2) c2 rfl rfl md_X3_isHome ⟨Nat.le_of_ble_eq_true rfl, Nat.le_of_ble_eq_true rfl⟩ q1226 q1227 q1228 q125 q1229 rfl (Nat.le_of_ble_eq_true rfl) dX3_whyNod_11 ?_
    refine x_if_ne 25 dX3_whyNod_14 (by decide) (fun c3 => ?_) (fun c3 => ?_)
    · rw [if_neg c3] at H
      refine X.sub [] rfl ?_
      exact t_X3_whyNod_b25 hE  _ H
    · rw [if_pos c3] at H
      refine x_aload_n 0 rfl dX3_whyNod_17 ?_
      refine x_iload_n 2 rfl dX3_whyNod_18 ?_
      obtain ⟨c4, H⟩ := oit H
      obtain ⟨a4, g4, e4, H⟩ := obR H
      refine x_callV (M' := mi_X3_isHome) (n := 1) (As := [.int x2]) (t_X3_isHome C _ e4) c4 rfl rfl md_X3_isHome ⟨Nat.le_of_ble_eq_true rfl, Nat.le_of_ble_eq_true rfl⟩ q1226 q1227 q1228 q125 q1229 rfl (Nat.le_of_ble_eq_true rfl) dX3_whyNod_19 ?_
      refine x_if_eq 29 dX3_whyNod_22 (by decide) (fun c5 => ?_) (fun c5 => ?_)
      · rw [if_pos c5] at H
        refine x_aload_n 0 rfl dX3_whyNod_29 ?_
        refine x_iload_n 1 rfl dX3_whyNod_30 ?_
        refine x_iload_n 2 rfl dX3_whyNod_31 ?_
        obtain ⟨c6, H⟩ := oit H
        obtain ⟨a6, g6, e6, H⟩ := obR H
        refine x_callV (M' := mi_X3_know) (n := 2) (As := [.int x1, .int x2]) (t_X3_know C _ e6) c6 rfl rfl md_X3_know ⟨Nat.le_of_ble_eq_true rfl, Nat.le_of_ble_eq_true rfl⟩ q1235 q1236 q1237 q125 q1238 rfl (Nat.le_of_ble_eq_true rfl) dX3_whyNod_32 ?_
        refine x_if_eq 42 dX3_whyNod_35 (by decide) (fun c7 => ?_) (fun c7 => ?_)
        · rw [if_pos c7] at H
          refine x_iconst (0 : Int32) dX3_whyNod_42 ic_0 ?_
          obtain rfl := Option.some.inj H
          exact x_iret hE rfl rfl dX3_whyNod_43
        · rw [if_neg c7] at H
          refine x_iconst (3 : Int32) dX3_whyNod_38 ic_3 ?_
          refine x_goto (tgt := 43) dX3_whyNod_39 (by decide) ?_
          obtain rfl := Option.some.inj H
          exact x_iret hE rfl rfl dX3_whyNod_43
      · rw [if_neg c5] at H
        refine X.sub [] rfl ?_
        exact t_X3_whyNod_b25 hE  _ H
  · rw [if_pos c1] at H
    refine x_iconst (1 : Int32) dX3_whyNod_5 ic_1 ?_
    refine x_goto (tgt := 43) dX3_whyNod_6 (by decide) ?_
    obtain rfl := Option.some.inj H
    exact x_iret hE rfl rfl dX3_whyNod_43
abbrev mi_X14_does : xM := (cX14_does, yX14_does, 3, some .int, 8)
theorem md_X14_does : xMD mi_X14_does 1 := ⟨by decide, by decide, by decide +kernel⟩
def f_X14_does_b29 (x2 : Int32) (h : mH) : Option (Int32 × mH) := bR (f_X11_told x2 (10 : Int32) h) fun a5 g5 => some (a5, g5)
theorem t_X14_does_b29 {G : xG} {C : xC} {o : Int32 × mH} (hE : xEnd G C (some (.int o.1)) o.2) (x2 : Int32) (h : mH) (H : f_X14_does_b29 x2 h = some o) : X G C mi_X14_does 29 [(2, .int x2)] [] h := by
  unfold f_X14_does_b29 at H
  refine x_iload_n 0 rfl dX14_does_29 ?_
  refine x_bipush (10 : Int32) dX14_does_30 bi_10 ?_
  obtain ⟨a5, g5, e5, H⟩ := obR H
  refine x_callST (x := ⟨"StrangerMarket$Nods", "told", "(II)I"⟩) (M' := mi_X11_told) (n := 2) (As := [.int x2, .int (10 : Int32)]) (t_X11_told C _ e5) md_X11_told ⟨Nat.le_of_ble_eq_true rfl, Nat.le_of_ble_eq_true rfl⟩ ⟨rfl, rfl⟩ (by decide) q1270 q1271 q1272 q149 q1273 rfl (Nat.le_of_ble_eq_true rfl) dX14_does_32 ?_
  obtain rfl := Option.some.inj H
  exact x_iret hE rfl rfl dX14_does_35
def f_X14_does (r0 : Nat) (r1 : Nat) (h : mH) : Option (Int32 × mH) := (gFi [12] 1 h r0).bind fun v1 => (gFi [12] 0 h r0).bind fun v2 => if gC h r1 = 2 then bR (f_X3_whyNod r1 v1 v2 h) fun a3 g3 => if a3 = 0 then (gFi [12] 1 g3 r0).bind fun v6 => (gFi [12] 0 g3 r0).bind fun v7 => if gC g3 r1 = 2 then bR (f_X3_nod r1 v6 v7 g3) fun a8 g8 => f_X14_does_b29 a3 g8 else none else f_X14_does_b29 a3 g3 else none
theorem t_X14_does {G : xG} (C0 : xC) {l : Launch} {r0 : Nat} {r1 : Nat} (h : mH) {o : Int32 × mH} (H : f_X14_does r0 r1 h = some o) : XR G l mi_X14_does [.ref r0, .ref r1] h (some (.int o.1)) o.2 := by
  refine XR.of C0 (by decide) (Nat.le_of_ble_eq_true rfl) (fun C _ _ _ hE => ?_)
  show X G C mi_X14_does 0 [(0, .ref r0), (1, .ref r1)] [] h
  unfold f_X14_does at H
  refine x_aload_n 1 rfl dX14_does_0 ?_
  refine x_aload_n 0 rfl dX14_does_1 ?_
  obtain ⟨v1, e1, H⟩ := ob H
  refine x_getf fg_X14_7 (gFi_spec e1) dX14_does_2 ?_
  refine x_aload_n 0 rfl dX14_does_5 ?_
  obtain ⟨v2, e2, H⟩ := ob H
  refine x_getf fg_X14_13 (gFi_spec e2) dX14_does_6 ?_
  obtain ⟨c3, H⟩ := oit H
  obtain ⟨a3, g3, e3, H⟩ := obR H
  refine x_callV (M' := mi_X3_whyNod) (n := 2) (As := [.int v1, .int v2]) (t_X3_whyNod C _ e3) c3 rfl rfl md_X3_whyNod ⟨Nat.le_of_ble_eq_true rfl, Nat.le_of_ble_eq_true rfl⟩ q1262 q1263 q1264 q125 q1265 rfl (Nat.le_of_ble_eq_true rfl) dX14_does_9 ?_
  refine x_istore_n [1, 2, 0] dX14_does_12 (by decide) rfl ?_
  refine x_iload_n 2 rfl dX14_does_13 ?_
  refine x_if_ne 29 dX14_does_14 (by decide) (fun c4 => ?_) (fun c4 => ?_)
  · rw [if_neg c4] at H
    refine X.sub [2] rfl ?_
    exact t_X14_does_b29 hE _ _ H
  · rw [if_pos c4] at H
    refine x_aload_n 1 rfl dX14_does_17 ?_
    refine x_aload_n 0 rfl dX14_does_18 ?_
    obtain ⟨v6, e6, H⟩ := ob H
    refine x_getf fg_X14_7 (gFi_spec e6) dX14_does_19 ?_
    refine x_aload_n 0 rfl dX14_does_22 ?_
    obtain ⟨v7, e7, H⟩ := ob H
    refine x_getf fg_X14_13 (gFi_spec e7) dX14_does_23 ?_
    obtain ⟨c8, H⟩ := oit H
    obtain ⟨a8, g8, e8, H⟩ := obR H
    refine x_callV (M' := mi_X3_nod) (n := 2) (As := [.int v6, .int v7]) (t_X3_nod C _ e8) c8 rfl rfl md_X3_nod ⟨Nat.le_of_ble_eq_true rfl, Nat.le_of_ble_eq_true rfl⟩ q1266 q1267 q1268 q125 q1269 rfl (Nat.le_of_ble_eq_true rfl) dX14_does_26 ?_
    refine X.sub [2] rfl ?_
    exact t_X14_does_b29 hE _ _ H
abbrev mi_X14_init : xM := (cX14_init, yX14_init, 3, none, 3)
theorem md_X14_init : xMD mi_X14_init 2 := ⟨by decide, by decide, by decide +kernel⟩
def f_X14_init (r0 : Nat) (x1 : Int32) (x2 : Int32) (h : mH) : Option (Unit × mH) := if 6 ≤ r0 then bR (f_X12_init r0 x1 x2 h) fun a1 g1 => some ((), g1) else none
theorem t_X14_init {G : xG} (C0 : xC) {l : Launch} {r0 : Nat} {x1 : Int32} {x2 : Int32} (h : mH) {o : Unit × mH} (H : f_X14_init r0 x1 x2 h = some o) : XR G l mi_X14_init [.ref r0, .int x1, .int x2] h none o.2 := by
  refine XR.of C0 (by decide) (Nat.le_of_ble_eq_true rfl) (fun C _ _ _ hE => ?_)
  show X G C mi_X14_init 0 [(0, .ref r0), (1, .int x1), (2, .int x2)] [] h
  unfold f_X14_init at H
  refine x_aload_n 0 rfl dX14_init_0 ?_
  refine x_iload_n 1 rfl dX14_init_1 ?_
  refine x_iload_n 2 rfl dX14_init_2 ?_
  obtain ⟨c1, H⟩ := oit H
  obtain ⟨a1, g1, e1, H⟩ := obR H
  refine x_callI (M' := mi_X12_init) (n := 2) (As := [.int x1, .int x2]) (t_X12_init C _ e1) c1 md_X12_init ⟨Nat.le_of_ble_eq_true rfl, Nat.le_of_ble_eq_true rfl⟩ rfl rfl q1327 q1175 q150 q1176 rfl (Nat.le_of_ble_eq_true rfl) dX14_init_3 ?_
  obtain rfl := Option.some.inj H
  exact x_vret hE rfl dX14_init_6
abbrev mi_X3_whyTell : xM := (cX3_whyTell, yX3_whyTell, 4, some .int, 7)
theorem md_X3_whyTell : xMD mi_X3_whyTell 3 := ⟨by decide, by decide, by decide +kernel⟩
def f_X3_whyTell_b15 (h : mH) : Option (Int32 × mH) := some ((1 : Int32), h)
theorem t_X3_whyTell_b15 {G : xG} {C : xC} {o : Int32 × mH} (hE : xEnd G C (some (.int o.1)) o.2) (h : mH) (H : f_X3_whyTell_b15 h = some o) : X G C mi_X3_whyTell 15 [] [] h := by
  unfold f_X3_whyTell_b15 at H
  refine x_iconst (1 : Int32) dX3_whyTell_15 ic_1 ?_
  refine x_goto (tgt := 55) dX3_whyTell_16 (by decide) ?_
  obtain rfl := Option.some.inj H
  exact x_iret hE rfl rfl dX3_whyTell_55
def f_X3_whyTell_b37 (h : mH) : Option (Int32 × mH) := some ((2 : Int32), h)
theorem t_X3_whyTell_b37 {G : xG} {C : xC} {o : Int32 × mH} (hE : xEnd G C (some (.int o.1)) o.2) (h : mH) (H : f_X3_whyTell_b37 h = some o) : X G C mi_X3_whyTell 37 [] [] h := by
  unfold f_X3_whyTell_b37 at H
  refine x_iconst (2 : Int32) dX3_whyTell_37 ic_2 ?_
  refine x_goto (tgt := 55) dX3_whyTell_38 (by decide) ?_
  obtain rfl := Option.some.inj H
  exact x_iret hE rfl rfl dX3_whyTell_55
def f_X3_whyTell (r0 : Nat) (x1 : Int32) (x2 : Int32) (x3 : Int32) (h : mH) : Option (Int32 × mH) := if x1 = x2 then f_X3_whyTell_b15  h else if x1 = x3 then f_X3_whyTell_b15  h else if x2 = x3 then f_X3_whyTell_b15  h else if gC h r0 = 2 then bR (f_X3_know r0 x1 x2 h) fun a4 g4 => if a4 = 0 then f_X3_whyTell_b37  g4 else if gC g4 r0 = 2 then bR (f_X3_know r0 x1 x3 g4) fun a6 g6 => if a6 = 0 then f_X3_whyTell_b37  g6 else if gC g6 r0 = 2 then bR (f_X3_know r0 x2 x3 g6) fun a8 g8 => if a8 = 0 then some ((0 : Int32), g8) else some ((3 : Int32), g8) else none else none else none
theorem t_X3_whyTell {G : xG} (C0 : xC) {l : Launch} {r0 : Nat} {x1 : Int32} {x2 : Int32} {x3 : Int32} (h : mH) {o : Int32 × mH} (H : f_X3_whyTell r0 x1 x2 x3 h = some o) : XR G l mi_X3_whyTell [.ref r0, .int x1, .int x2, .int x3] h (some (.int o.1)) o.2 := by
  refine XR.of C0 (by decide) (Nat.le_of_ble_eq_true rfl) (fun C _ _ _ hE => ?_)
  show X G C mi_X3_whyTell 0 [(0, .ref r0), (1, .int x1), (2, .int x2), (3, .int x3)] [] h
  unfold f_X3_whyTell at H
  refine x_iload_n 1 rfl dX3_whyTell_0 ?_
  refine x_iload_n 2 rfl dX3_whyTell_1 ?_
  refine x_icmp_eq 15 dX3_whyTell_2 (by decide) (fun c1 => ?_) (fun c1 => ?_)
  · rw [if_pos c1] at H
    refine X.sub [] rfl ?_
    exact t_X3_whyTell_b15 hE  _ H
  · rw [if_neg c1] at H
    refine x_iload_n 1 rfl dX3_whyTell_5 ?_
    refine x_iload_n 3 rfl dX3_whyTell_6 ?_
    refine x_icmp_eq 15 dX3_whyTell_7 (by decide) (fun c2 => ?_) (fun c2 => ?_)
    · rw [if_pos c2] at H
      refine X.sub [] rfl ?_
      exact t_X3_whyTell_b15 hE  _ H
    · rw [if_neg c2] at H
      refine x_iload_n 2 rfl dX3_whyTell_10 ?_
      refine x_iload_n 3 rfl dX3_whyTell_11 ?_
      refine x_icmp_ne 19 dX3_whyTell_12 (by decide) (fun c3 => ?_) (fun c3 => ?_)
      · rw [if_neg c3] at H
        refine x_aload_n 0 rfl dX3_whyTell_19 ?_
        refine x_iload_n 1 rfl dX3_whyTell_20 ?_
        refine x_iload_n 2 rfl dX3_whyTell_21 ?_
        obtain ⟨c4, H⟩ := oit H
        obtain ⟨a4, g4, e4, H⟩ := obR H
        refine x_callV (M' := mi_X3_know) (n := 2) (As := [.int x1, .int x2]) (t_X3_know C _ e4) c4 rfl rfl md_X3_know ⟨Nat.le_of_ble_eq_true rfl, Nat.le_of_ble_eq_true rfl⟩ q1235 q1236 q1237 q125 q1238 rfl (Nat.le_of_ble_eq_true rfl) dX3_whyTell_22 ?_
        refine x_if_eq 37 dX3_whyTell_25 (by decide) (fun c5 => ?_) (fun c5 => ?_)
        · rw [if_pos c5] at H
          refine X.sub [] rfl ?_
          exact t_X3_whyTell_b37 hE  _ H
        · rw [if_neg c5] at H
          refine x_aload_n 0 rfl dX3_whyTell_28 ?_
          refine x_iload_n 1 rfl dX3_whyTell_29 ?_
          refine x_iload_n 3 rfl dX3_whyTell_30 ?_
          obtain ⟨c6, H⟩ := oit H
          obtain ⟨a6, g6, e6, H⟩ := obR H
          refine x_callV (M' := mi_X3_know) (n := 2) (As := [.int x1, .int x3]) (t_X3_know C _ e6) c6 rfl rfl md_X3_know ⟨Nat.le_of_ble_eq_true rfl, Nat.le_of_ble_eq_true rfl⟩ q1235 q1236 q1237 q125 q1238 rfl (Nat.le_of_ble_eq_true rfl) dX3_whyTell_31 ?_
          refine x_if_ne 41 dX3_whyTell_34 (by decide) (fun c7 => ?_) (fun c7 => ?_)
          · rw [if_neg c7] at H
            refine x_aload_n 0 rfl dX3_whyTell_41 ?_
            refine x_iload_n 2 rfl dX3_whyTell_42 ?_
            refine x_iload_n 3 rfl dX3_whyTell_43 ?_
            obtain ⟨c8, H⟩ := oit H
            obtain ⟨a8, g8, e8, H⟩ := obR H
            refine x_callV (M' := mi_X3_know) (n := 2) (As := [.int x2, .int x3]) (t_X3_know C _ e8) c8 rfl rfl md_X3_know ⟨Nat.le_of_ble_eq_true rfl, Nat.le_of_ble_eq_true rfl⟩ q1235 q1236 q1237 q125 q1238 rfl (Nat.le_of_ble_eq_true rfl) dX3_whyTell_44 ?_
            refine x_if_eq 54 dX3_whyTell_47 (by decide) (fun c9 => ?_) (fun c9 => ?_)
            · rw [if_pos c9] at H
              refine x_iconst (0 : Int32) dX3_whyTell_54 ic_0 ?_
              obtain rfl := Option.some.inj H
              exact x_iret hE rfl rfl dX3_whyTell_55
            · rw [if_neg c9] at H
              refine x_iconst (3 : Int32) dX3_whyTell_50 ic_3 ?_
              refine x_goto (tgt := 55) dX3_whyTell_51 (by decide) ?_
              obtain rfl := Option.some.inj H
              exact x_iret hE rfl rfl dX3_whyTell_55
          · rw [if_pos c7] at H
            refine X.sub [] rfl ?_
            exact t_X3_whyTell_b37 hE  _ H
      · rw [if_pos c3] at H
        refine X.sub [] rfl ?_
        exact t_X3_whyTell_b15 hE  _ H
abbrev mi_X15_does : xM := (cX15_does, yX15_does, 3, some .int, 8)
theorem md_X15_does : xMD mi_X15_does 1 := ⟨by decide, by decide, by decide +kernel⟩
def f_X15_does_b33 (x2 : Int32) (h : mH) : Option (Int32 × mH) := bR (f_X11_told x2 (30 : Int32) h) fun a6 g6 => some (a6, g6)
theorem t_X15_does_b33 {G : xG} {C : xC} {o : Int32 × mH} (hE : xEnd G C (some (.int o.1)) o.2) (x2 : Int32) (h : mH) (H : f_X15_does_b33 x2 h = some o) : X G C mi_X15_does 33 [(2, .int x2)] [] h := by
  unfold f_X15_does_b33 at H
  refine x_iload_n 0 rfl dX15_does_33 ?_
  refine x_bipush (30 : Int32) dX15_does_34 bi_30 ?_
  obtain ⟨a6, g6, e6, H⟩ := obR H
  refine x_callST (x := ⟨"StrangerMarket$Tells", "told", "(II)I"⟩) (M' := mi_X11_told) (n := 2) (As := [.int x2, .int (30 : Int32)]) (t_X11_told C _ e6) md_X11_told ⟨Nat.le_of_ble_eq_true rfl, Nat.le_of_ble_eq_true rfl⟩ ⟨rfl, rfl⟩ (by decide) q1299 q1300 q1272 q149 q1273 rfl (Nat.le_of_ble_eq_true rfl) dX15_does_36 ?_
  obtain rfl := Option.some.inj H
  exact x_iret hE rfl rfl dX15_does_39
def f_X15_does (r0 : Nat) (r1 : Nat) (h : mH) : Option (Int32 × mH) := (gFi [13] 1 h r0).bind fun v1 => (gFi [13] 0 h r0).bind fun v2 => (gFi [13] 2 h r0).bind fun v3 => if gC h r1 = 2 then bR (f_X3_whyTell r1 v1 v2 v3 h) fun a4 g4 => if a4 = 0 then (gFi [13] 0 g4 r0).bind fun v7 => (gFi [13] 2 g4 r0).bind fun v8 => if gC g4 r1 = 2 then bR (f_X3_meet r1 v7 v8 g4) fun a9 g9 => f_X15_does_b33 a4 g9 else none else f_X15_does_b33 a4 g4 else none
theorem t_X15_does {G : xG} (C0 : xC) {l : Launch} {r0 : Nat} {r1 : Nat} (h : mH) {o : Int32 × mH} (H : f_X15_does r0 r1 h = some o) : XR G l mi_X15_does [.ref r0, .ref r1] h (some (.int o.1)) o.2 := by
  refine XR.of C0 (by decide) (Nat.le_of_ble_eq_true rfl) (fun C _ _ _ hE => ?_)
  show X G C mi_X15_does 0 [(0, .ref r0), (1, .ref r1)] [] h
  unfold f_X15_does at H
  refine x_aload_n 1 rfl dX15_does_0 ?_
  refine x_aload_n 0 rfl dX15_does_1 ?_
  obtain ⟨v1, e1, H⟩ := ob H
  refine x_getf fg_X15_13 (gFi_spec e1) dX15_does_2 ?_
  refine x_aload_n 0 rfl dX15_does_5 ?_
  obtain ⟨v2, e2, H⟩ := ob H
  refine x_getf fg_X15_16 (gFi_spec e2) dX15_does_6 ?_
  refine x_aload_n 0 rfl dX15_does_9 ?_
  obtain ⟨v3, e3, H⟩ := ob H
  refine x_getf fg_X15_7 (gFi_spec e3) dX15_does_10 ?_
  obtain ⟨c4, H⟩ := oit H
  obtain ⟨a4, g4, e4, H⟩ := obR H
  refine x_callV (M' := mi_X3_whyTell) (n := 3) (As := [.int v1, .int v2, .int v3]) (t_X3_whyTell C _ e4) c4 rfl rfl md_X3_whyTell ⟨Nat.le_of_ble_eq_true rfl, Nat.le_of_ble_eq_true rfl⟩ q1294 q1295 q1296 q125 q1297 rfl (Nat.le_of_ble_eq_true rfl) dX15_does_13 ?_
  refine x_istore_n [1, 2, 0] dX15_does_16 (by decide) rfl ?_
  refine x_iload_n 2 rfl dX15_does_17 ?_
  refine x_if_ne 33 dX15_does_18 (by decide) (fun c5 => ?_) (fun c5 => ?_)
  · rw [if_neg c5] at H
    refine X.sub [2] rfl ?_
    exact t_X15_does_b33 hE _ _ H
  · rw [if_pos c5] at H
    refine x_aload_n 1 rfl dX15_does_21 ?_
    refine x_aload_n 0 rfl dX15_does_22 ?_
    obtain ⟨v7, e7, H⟩ := ob H
    refine x_getf fg_X15_16 (gFi_spec e7) dX15_does_23 ?_
    refine x_aload_n 0 rfl dX15_does_26 ?_
    obtain ⟨v8, e8, H⟩ := ob H
    refine x_getf fg_X15_7 (gFi_spec e8) dX15_does_27 ?_
    obtain ⟨c9, H⟩ := oit H
    obtain ⟨a9, g9, e9, H⟩ := obR H
    refine x_callV (M' := mi_X3_meet) (n := 2) (As := [.int v7, .int v8]) (t_X3_meet C _ e9) c9 rfl rfl md_X3_meet ⟨Nat.le_of_ble_eq_true rfl, Nat.le_of_ble_eq_true rfl⟩ q1298 q1256 q1257 q125 q1258 rfl (Nat.le_of_ble_eq_true rfl) dX15_does_30 ?_
    refine X.sub [2] rfl ?_
    exact t_X15_does_b33 hE _ _ H
abbrev mi_X15_init : xM := (cX15_init, yX15_init, 4, none, 3)
theorem md_X15_init : xMD mi_X15_init 3 := ⟨by decide, by decide, by decide +kernel⟩
def f_X15_init (r0 : Nat) (x1 : Int32) (x2 : Int32) (x3 : Int32) (h : mH) : Option (Unit × mH) := if 6 ≤ r0 then bR (f_X12_init r0 x1 x2 h) fun a1 g1 => (pF [13] 2 (.int x3) g1 r0).bind fun h2 => some ((), h2) else none
theorem t_X15_init {G : xG} (C0 : xC) {l : Launch} {r0 : Nat} {x1 : Int32} {x2 : Int32} {x3 : Int32} (h : mH) {o : Unit × mH} (H : f_X15_init r0 x1 x2 x3 h = some o) : XR G l mi_X15_init [.ref r0, .int x1, .int x2, .int x3] h none o.2 := by
  refine XR.of C0 (by decide) (Nat.le_of_ble_eq_true rfl) (fun C _ _ _ hE => ?_)
  show X G C mi_X15_init 0 [(0, .ref r0), (1, .int x1), (2, .int x2), (3, .int x3)] [] h
  unfold f_X15_init at H
  refine x_aload_n 0 rfl dX15_init_0 ?_
  refine x_iload_n 1 rfl dX15_init_1 ?_
  refine x_iload_n 2 rfl dX15_init_2 ?_
  obtain ⟨c1, H⟩ := oit H
  obtain ⟨a1, g1, e1, H⟩ := obR H
  refine x_callI (M' := mi_X12_init) (n := 2) (As := [.int x1, .int x2]) (t_X12_init C _ e1) c1 md_X12_init ⟨Nat.le_of_ble_eq_true rfl, Nat.le_of_ble_eq_true rfl⟩ rfl rfl q1352 q1175 q150 q1176 rfl (Nat.le_of_ble_eq_true rfl) dX15_init_3 ?_
  refine x_aload_n 0 rfl dX15_init_6 ?_
  refine x_iload_n 3 rfl dX15_init_7 ?_
  obtain ⟨h2, e2, H⟩ := ob H
  refine x_putf fp_X15_7 rfl rfl e2 dX15_init_8 ?_
  obtain rfl := Option.some.inj H
  exact x_vret hE rfl dX15_init_11
abbrev mi_X3_veil : xM := (cX3_veil, yX3_veil, 2, none, 1)
theorem md_X3_veil : xMD mi_X3_veil 1 := ⟨by decide, by decide, by decide +kernel⟩
def f_X3_veil (r0 : Nat) (x1 : Int32) (h : mH) : Option (Unit × mH) := (gFi [2] 5 h r0).bind fun v1 => (pF [2] 5 (.int (v1 ||| ((1 : Int32) <<< (x1 &&& 31)))) h r0).bind fun h2 => (gFi [2] 3 h2 r0).bind fun v3 => (pF [2] 3 (.int (v3 - (1 : Int32))) h2 r0).bind fun h4 => some ((), h4)
theorem t_X3_veil {G : xG} (C0 : xC) {l : Launch} {r0 : Nat} {x1 : Int32} (h : mH) {o : Unit × mH} (H : f_X3_veil r0 x1 h = some o) : XR G l mi_X3_veil [.ref r0, .int x1] h none o.2 := by
  refine XR.of C0 (by decide) (Nat.le_of_ble_eq_true rfl) (fun C _ _ _ hE => ?_)
  show X G C mi_X3_veil 0 [(0, .ref r0), (1, .int x1)] [] h
  unfold f_X3_veil at H
  refine x_aload_n 0 rfl dX3_veil_0 ?_
  refine x_dup dX3_veil_1 rfl ?_
  obtain ⟨v1, e1, H⟩ := ob H
  refine x_getf fg_X3_71 (gFi_spec e1) dX3_veil_2 ?_
  refine x_iconst (1 : Int32) dX3_veil_5 ic_1 ?_
  refine x_iload_n 1 rfl dX3_veil_6 ?_
  refine x_ishl dX3_veil_7 ?_
  refine x_ior dX3_veil_8 ?_
  obtain ⟨h2, e2, H⟩ := ob H
  refine x_putf (fp_X3_71 _) rfl rfl e2 dX3_veil_9 ?_
  refine x_aload_n 0 rfl dX3_veil_12 ?_
  refine x_dup dX3_veil_13 rfl ?_
  obtain ⟨v3, e3, H⟩ := ob H
  refine x_getf fg_X3_65 (gFi_spec e3) dX3_veil_14 ?_
  refine x_iconst (1 : Int32) dX3_veil_17 ic_1 ?_
  refine x_isub dX3_veil_18 ?_
  obtain ⟨h4, e4, H⟩ := ob H
  refine x_putf (fp_X3_65 _) rfl rfl e4 dX3_veil_19 ?_
  obtain rfl := Option.some.inj H
  exact x_vret hE rfl dX3_veil_22
abbrev mi_X3_whyVeil : xM := (cX3_whyVeil, yX3_whyVeil, 2, some .int, 3)
theorem md_X3_whyVeil : xMD mi_X3_whyVeil 1 := ⟨by decide, by decide, by decide +kernel⟩
def f_X3_whyVeil (r0 : Nat) (x1 : Int32) (h : mH) : Option (Int32 × mH) := if gC h r0 = 2 then bR (f_X3_isVeiled r0 x1 h) fun a1 g1 => if a1 = 0 then (gFi [2] 3 g1 r0).bind fun v3 => if v3 = 0 then some ((2 : Int32), g1) else some ((0 : Int32), g1) else some ((1 : Int32), g1) else none
theorem t_X3_whyVeil {G : xG} (C0 : xC) {l : Launch} {r0 : Nat} {x1 : Int32} (h : mH) {o : Int32 × mH} (H : f_X3_whyVeil r0 x1 h = some o) : XR G l mi_X3_whyVeil [.ref r0, .int x1] h (some (.int o.1)) o.2 := by
  refine XR.of C0 (by decide) (Nat.le_of_ble_eq_true rfl) (fun C _ _ _ hE => ?_)
  show X G C mi_X3_whyVeil 0 [(0, .ref r0), (1, .int x1)] [] h
  unfold f_X3_whyVeil at H
  refine x_aload_n 0 rfl dX3_whyVeil_0 ?_
  refine x_iload_n 1 rfl dX3_whyVeil_1 ?_
  obtain ⟨c1, H⟩ := oit H
  obtain ⟨a1, g1, e1, H⟩ := obR H
  refine x_callV (M' := mi_X3_isVeiled) (n := 1) (As := [.int x1]) (t_X3_isVeiled C _ e1) c1 rfl rfl md_X3_isVeiled ⟨Nat.le_of_ble_eq_true rfl, Nat.le_of_ble_eq_true rfl⟩ q1247 q1248 q1249 q125 q1250 rfl (Nat.le_of_ble_eq_true rfl) dX3_whyVeil_2 ?_
  refine x_if_eq 12 dX3_whyVeil_5 (by decide) (fun c2 => ?_) (fun c2 => ?_)
  · rw [if_pos c2] at H
    refine x_aload_n 0 rfl dX3_whyVeil_12 ?_
    obtain ⟨v3, e3, H⟩ := ob H
    refine x_getf fg_X3_65 (gFi_spec e3) dX3_whyVeil_13 ?_
    refine x_if_ne 23 dX3_whyVeil_16 (by decide) (fun c4 => ?_) (fun c4 => ?_)
    · rw [if_neg c4] at H
      refine x_iconst (0 : Int32) dX3_whyVeil_23 ic_0 ?_
      obtain rfl := Option.some.inj H
      exact x_iret hE rfl rfl dX3_whyVeil_24
    · rw [if_pos c4] at H
      refine x_iconst (2 : Int32) dX3_whyVeil_19 ic_2 ?_
      refine x_goto (tgt := 24) dX3_whyVeil_20 (by decide) ?_
      obtain rfl := Option.some.inj H
      exact x_iret hE rfl rfl dX3_whyVeil_24
  · rw [if_neg c2] at H
    refine x_iconst (1 : Int32) dX3_whyVeil_8 ic_1 ?_
    refine x_goto (tgt := 24) dX3_whyVeil_9 (by decide) ?_
    obtain rfl := Option.some.inj H
    exact x_iret hE rfl rfl dX3_whyVeil_24
abbrev mi_X16_does : xM := (cX16_does, yX16_does, 3, some .int, 4)
theorem md_X16_does : xMD mi_X16_does 1 := ⟨by decide, by decide, by decide +kernel⟩
def f_X16_does_b21 (x2 : Int32) (h : mH) : Option (Int32 × mH) := bR (f_X11_told x2 (20 : Int32) h) fun a4 g4 => some (a4, g4)
theorem t_X16_does_b21 {G : xG} {C : xC} {o : Int32 × mH} (hE : xEnd G C (some (.int o.1)) o.2) (x2 : Int32) (h : mH) (H : f_X16_does_b21 x2 h = some o) : X G C mi_X16_does 21 [(2, .int x2)] [] h := by
  unfold f_X16_does_b21 at H
  refine x_iload_n 0 rfl dX16_does_21 ?_
  refine x_bipush (20 : Int32) dX16_does_22 bi_20 ?_
  obtain ⟨a4, g4, e4, H⟩ := obR H
  refine x_callST (x := ⟨"StrangerMarket$Veils", "told", "(II)I"⟩) (M' := mi_X11_told) (n := 2) (As := [.int x2, .int (20 : Int32)]) (t_X11_told C _ e4) md_X11_told ⟨Nat.le_of_ble_eq_true rfl, Nat.le_of_ble_eq_true rfl⟩ ⟨rfl, rfl⟩ (by decide) q1312 q1313 q1272 q149 q1273 rfl (Nat.le_of_ble_eq_true rfl) dX16_does_24 ?_
  obtain rfl := Option.some.inj H
  exact x_iret hE rfl rfl dX16_does_27
def f_X16_does (r0 : Nat) (r1 : Nat) (h : mH) : Option (Int32 × mH) := (gFi [14] 0 h r0).bind fun v1 => if gC h r1 = 2 then bR (f_X3_whyVeil r1 v1 h) fun a2 g2 => if a2 = 0 then (gFi [14] 0 g2 r0).bind fun v5 => if gC g2 r1 = 2 then bR (f_X3_veil r1 v5 g2) fun a6 g6 => f_X16_does_b21 a2 g6 else none else f_X16_does_b21 a2 g2 else none
theorem t_X16_does {G : xG} (C0 : xC) {l : Launch} {r0 : Nat} {r1 : Nat} (h : mH) {o : Int32 × mH} (H : f_X16_does r0 r1 h = some o) : XR G l mi_X16_does [.ref r0, .ref r1] h (some (.int o.1)) o.2 := by
  refine XR.of C0 (by decide) (Nat.le_of_ble_eq_true rfl) (fun C _ _ _ hE => ?_)
  show X G C mi_X16_does 0 [(0, .ref r0), (1, .ref r1)] [] h
  unfold f_X16_does at H
  refine x_aload_n 1 rfl dX16_does_0 ?_
  refine x_aload_n 0 rfl dX16_does_1 ?_
  obtain ⟨v1, e1, H⟩ := ob H
  refine x_getf fg_X16_7 (gFi_spec e1) dX16_does_2 ?_
  obtain ⟨c2, H⟩ := oit H
  obtain ⟨a2, g2, e2, H⟩ := obR H
  refine x_callV (M' := mi_X3_whyVeil) (n := 1) (As := [.int v1]) (t_X3_whyVeil C _ e2) c2 rfl rfl md_X3_whyVeil ⟨Nat.le_of_ble_eq_true rfl, Nat.le_of_ble_eq_true rfl⟩ q1304 q1305 q1306 q125 q1307 rfl (Nat.le_of_ble_eq_true rfl) dX16_does_5 ?_
  refine x_istore_n [1, 2, 0] dX16_does_8 (by decide) rfl ?_
  refine x_iload_n 2 rfl dX16_does_9 ?_
  refine x_if_ne 21 dX16_does_10 (by decide) (fun c3 => ?_) (fun c3 => ?_)
  · rw [if_neg c3] at H
    refine X.sub [2] rfl ?_
    exact t_X16_does_b21 hE _ _ H
  · rw [if_pos c3] at H
    refine x_aload_n 1 rfl dX16_does_13 ?_
    refine x_aload_n 0 rfl dX16_does_14 ?_
    obtain ⟨v5, e5, H⟩ := ob H
    refine x_getf fg_X16_7 (gFi_spec e5) dX16_does_15 ?_
    obtain ⟨c6, H⟩ := oit H
    obtain ⟨a6, g6, e6, H⟩ := obR H
    refine x_callV (M' := mi_X3_veil) (n := 1) (As := [.int v5]) (t_X3_veil C _ e6) c6 rfl rfl md_X3_veil ⟨Nat.le_of_ble_eq_true rfl, Nat.le_of_ble_eq_true rfl⟩ q1308 q1309 q1310 q125 q1311 rfl (Nat.le_of_ble_eq_true rfl) dX16_does_18 ?_
    refine X.sub [2] rfl ?_
    exact t_X16_does_b21 hE _ _ H
abbrev mi_X16_init : xM := (cX16_init, yX16_init, 2, none, 2)
theorem md_X16_init : xMD mi_X16_init 1 := ⟨by decide, by decide, by decide +kernel⟩
def f_X16_init (r0 : Nat) (x1 : Int32) (h : mH) : Option (Unit × mH) := if 6 ≤ r0 then bR (f_X11_init r0 x1 h) fun a1 g1 => some ((), g1) else none
theorem t_X16_init {G : xG} (C0 : xC) {l : Launch} {r0 : Nat} {x1 : Int32} (h : mH) {o : Unit × mH} (H : f_X16_init r0 x1 h = some o) : XR G l mi_X16_init [.ref r0, .int x1] h none o.2 := by
  refine XR.of C0 (by decide) (Nat.le_of_ble_eq_true rfl) (fun C _ _ _ hE => ?_)
  show X G C mi_X16_init 0 [(0, .ref r0), (1, .int x1)] [] h
  unfold f_X16_init at H
  refine x_aload_n 0 rfl dX16_init_0 ?_
  refine x_iload_n 1 rfl dX16_init_1 ?_
  obtain ⟨c1, H⟩ := oit H
  obtain ⟨a1, g1, e1, H⟩ := obR H
  refine x_callI (M' := mi_X11_init) (n := 1) (As := [.int x1]) (t_X11_init C _ e1) c1 md_X11_init ⟨Nat.le_of_ble_eq_true rfl, Nat.le_of_ble_eq_true rfl⟩ rfl rfl q1340 q1178 q149 q1179 rfl (Nat.le_of_ble_eq_true rfl) dX16_init_2 ?_
  obtain rfl := Option.some.inj H
  exact x_vret hE rfl dX16_init_5
abbrev mi_J9_newBytesLength : xM := (cJ9_newBytesLength, yJ9_newBytesLength, 1, some .int, 1)
theorem md_J9_newBytesLength : xMD mi_J9_newBytesLength 1 := ⟨by decide, by decide, by decide +kernel⟩
def f_J9_newBytesLength (x0 : Int32) (h : mH) : Option (Int32 × mH) := if 0 ≤ x0 then if x0 < (1073741823 : Int32) then some ((x0 <<< ((1 : Int32) &&& 31)), h) else none else none
theorem t_J9_newBytesLength {G : xG} (C0 : xC) {l : Launch} {x0 : Int32} (h : mH) {o : Int32 × mH} (H : f_J9_newBytesLength x0 h = some o) : XR G l mi_J9_newBytesLength [.int x0] h (some (.int o.1)) o.2 := by
  refine XR.of C0 (by decide) (Nat.le_of_ble_eq_true rfl) (fun C _ _ _ hE => ?_)
  show X G C mi_J9_newBytesLength 0 [(0, .int x0)] [] h
  unfold f_J9_newBytesLength at H
  refine x_iload_n 0 rfl dJ9_newBytesLength_0 ?_
  refine x_if_ge 12 dJ9_newBytesLength_1 (by decide) (fun c1 => ?_) (fun c1 => ?_)
  · rw [if_pos c1] at H
    refine x_iload_n 0 rfl dJ9_newBytesLength_12 ?_
    refine x_ldc q550 dJ9_newBytesLength_13 ?_
    refine x_icmp_lt 55 dJ9_newBytesLength_15 (by decide) (fun c2 => ?_) (fun c2 => ?_)
    · rw [if_pos c2] at H
      refine x_iload_n 0 rfl dJ9_newBytesLength_55 ?_
      refine x_iconst (1 : Int32) dJ9_newBytesLength_56 ic_1 ?_
      refine x_ishl dJ9_newBytesLength_57 ?_
      obtain rfl := Option.some.inj H
      exact x_iret hE rfl rfl dJ9_newBytesLength_58
    · rw [if_neg c2] at H
      exact nomatch H
  · rw [if_neg c1] at H
    exact nomatch H
abbrev mi_J9_newBytesFor : xM := (cJ9_newBytesFor, yJ9_newBytesFor, 1, some (.array .byte), 2)
theorem md_J9_newBytesFor : xMD mi_J9_newBytesFor 1 := ⟨by decide, by decide, by decide +kernel⟩
def f_J9_newBytesFor (x0 : Int32) (h : mH) : Option (Nat × mH) := bR (f_J9_newBytesLength x0 h) fun a1 g1 => bR (nA .byte g1 a1) fun a2 g2 => some (a2, g2)
theorem t_J9_newBytesFor {G : xG} (C0 : xC) {l : Launch} {x0 : Int32} (h : mH) {o : Nat × mH} (H : f_J9_newBytesFor x0 h = some o) : XR G l mi_J9_newBytesFor [.int x0] h (some (.ref o.1)) o.2 := by
  refine XR.of C0 (by decide) (Nat.le_of_ble_eq_true rfl) (fun C _ _ _ hE => ?_)
  show X G C mi_J9_newBytesFor 0 [(0, .int x0)] [] h
  unfold f_J9_newBytesFor at H
  refine x_iload_n 0 rfl dJ9_newBytesFor_0 ?_
  obtain ⟨a1, g1, e1, H⟩ := obR H
  refine x_callS (M' := mi_J9_newBytesLength) (n := 1) (As := [.int x0]) (t_J9_newBytesLength C _ e1) md_J9_newBytesLength ⟨Nat.le_of_ble_eq_true rfl, Nat.le_of_ble_eq_true rfl⟩ q547 q548 q137 q549 rfl (Nat.le_of_ble_eq_true rfl) dJ9_newBytesFor_1 ?_
  obtain ⟨a2, g2, e2, H⟩ := obR H
  refine x_newa (at_ := .byte) (ty := .byte) rfl (by decide) q204 e2 dJ9_newBytesFor_4 ?_
  obtain rfl := Option.some.inj H
  exact x_aret hE rfl (by first | exact Or.inl ⟨_, rfl⟩ | exact Or.inr ⟨_, rfl⟩) dJ9_newBytesFor_6
abbrev mi_J6_init : xM := (cJ6_init, yJ6_init, 2, none, 3)
theorem md_J6_init : xMD mi_J6_init 1 := ⟨by decide, by decide, by decide +kernel⟩
def f_J6_init (r0 : Nat) (x1 : Int32) (h : mH) : Option (Unit × mH) := if 6 ≤ r0 then if (1 : Int32) = 0 then bR (f_J9_newBytesFor x1 h) fun a3 g3 => (pF [22] 0 (.ref a3) g3 r0).bind fun h4 => (pF [22] 1 (.int (1 : Int32)) h4 r0).bind fun h5 => some ((), h5) else bR (nA .byte h x1) fun a6 g6 => (pF [22] 0 (.ref a6) g6 r0).bind fun h7 => (pF [22] 1 (.int (0 : Int32)) h7 r0).bind fun h8 => some ((), h8) else none
theorem t_J6_init {G : xG} (C0 : xC) {l : Launch} {r0 : Nat} {x1 : Int32} (h : mH) {o : Unit × mH} (H : f_J6_init r0 x1 h = some o) : XR G l mi_J6_init [.ref r0, .int x1] h none o.2 := by
  refine XR.of C0 (by decide) (Nat.le_of_ble_eq_true rfl) (fun C _ _ _ hE => ?_)
  show X G C mi_J6_init 0 [(0, .ref r0), (1, .int x1)] [] h
  unfold f_J6_init at H
  refine x_aload_n 0 rfl dJ6_init_0 ?_
  obtain ⟨c1, H⟩ := oit H
  refine x_oinit c1 (by decide) q541 q170 q171 (Nat.le_of_ble_eq_true rfl) dJ6_init_1 ?_
  refine x_gets (v := .int 1) (List.mem_of_getElem? (i := 1) rfl) q542 dJ6_init_4 ?_
  refine x_if_eq 25 dJ6_init_7 (by decide) (fun c2 => ?_) (fun c2 => ?_)
  · rw [if_pos c2] at H
    refine x_aload_n 0 rfl dJ6_init_25 ?_
    refine x_iload_n 1 rfl dJ6_init_26 ?_
    obtain ⟨a3, g3, e3, H⟩ := obR H
    refine x_callS (M' := mi_J9_newBytesFor) (n := 1) (As := [.int x1]) (t_J9_newBytesFor C _ e3) md_J9_newBytesFor ⟨Nat.le_of_ble_eq_true rfl, Nat.le_of_ble_eq_true rfl⟩ q544 q545 q137 q546 rfl (Nat.le_of_ble_eq_true rfl) dJ6_init_27 ?_
    obtain ⟨h4, e4, H⟩ := ob H
    refine x_putf (fp_J6_15 _) rfl rfl e4 dJ6_init_30 ?_
    refine x_aload_n 0 rfl dJ6_init_33 ?_
    refine x_iconst (1 : Int32) dJ6_init_34 ic_1 ?_
    obtain ⟨h5, e5, H⟩ := ob H
    refine x_putf (fp_J6_22 _) rfl rfl e5 dJ6_init_35 ?_
    obtain rfl := Option.some.inj H
    exact x_vret hE rfl dJ6_init_38
  · rw [if_neg c2] at H
    refine x_aload_n 0 rfl dJ6_init_10 ?_
    refine x_iload_n 1 rfl dJ6_init_11 ?_
    obtain ⟨a6, g6, e6, H⟩ := obR H
    refine x_newa (at_ := .byte) (ty := .byte) rfl (by decide) q204 e6 dJ6_init_12 ?_
    obtain ⟨h7, e7, H⟩ := ob H
    refine x_putf (fp_J6_15 _) rfl rfl e7 dJ6_init_14 ?_
    refine x_aload_n 0 rfl dJ6_init_17 ?_
    refine x_iconst (0 : Int32) dJ6_init_18 ic_0 ?_
    obtain ⟨h8, e8, H⟩ := ob H
    refine x_putf (fp_J6_22 _) rfl rfl e8 dJ6_init_19 ?_
    refine x_goto (tgt := 38) dJ6_init_22 (by decide) ?_
    obtain rfl := Option.some.inj H
    exact x_vret hE rfl dJ6_init_38
abbrev mi_J7_init : xM := (cJ7_init, yJ7_init, 1, none, 4)
theorem md_J7_init : xMD mi_J7_init 0 := ⟨by decide, by decide, by decide +kernel⟩
def f_J7_init (r0 : Nat) (h : mH) : Option (Unit × mH) := if 6 ≤ r0 then bR (f_J6_init r0 (16 : Int32) h) fun a1 g1 => some ((), g1) else none
theorem t_J7_init {G : xG} (C0 : xC) {l : Launch} {r0 : Nat} (h : mH) {o : Unit × mH} (H : f_J7_init r0 h = some o) : XR G l mi_J7_init [.ref r0] h none o.2 := by
  refine XR.of C0 (by decide) (Nat.le_of_ble_eq_true rfl) (fun C _ _ _ hE => ?_)
  show X G C mi_J7_init 0 [(0, .ref r0)] [] h
  unfold f_J7_init at H
  refine x_aload_n 0 rfl dJ7_init_0 ?_
  refine x_bipush (16 : Int32) dJ7_init_1 bi_16 ?_
  obtain ⟨c1, H⟩ := oit H
  obtain ⟨a1, g1, e1, H⟩ := obR H
  refine x_callI (M' := mi_J6_init) (n := 1) (As := [.int (16 : Int32)]) (t_J6_init C _ e1) c1 md_J6_init ⟨Nat.le_of_ble_eq_true rfl, Nat.le_of_ble_eq_true rfl⟩ rfl rfl q538 q539 q134 q540 rfl (Nat.le_of_ble_eq_true rfl) dJ7_init_3 ?_
  obtain rfl := Option.some.inj H
  exact x_vret hE rfl dJ7_init_6
