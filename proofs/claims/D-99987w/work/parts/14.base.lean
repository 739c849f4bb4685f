section XCall
variable {G : xG} {C : xC} {M M' : xM} {pc : Nat} {lv : List (Nat × Value)} {st : List Value} {h h1 : mH} {r : Option Value}
theorem x_iret {v : Int32} {ty : FieldType} (hE : xEnd G C (some (.int v)) h) (hr : M.2.2.2.1 = some ty) (hn : narrow ty (.int v) = .int v) (hd : decode M.1 pc = .ok (.ireturn, 1)) : X G C M pc lv [.int v] h := by
  obtain ⟨e1, e2, e3⟩ := hE
  refine ⟨⟨by rw [e2]; exact Nat.le_refl _, by rw [e3]; exact Nat.le_refl _⟩, fun hC b1 b2 ls H locs hl hR hq => ?_⟩
  unfold xW
  rw [e1]
  exact W.zret hC.1 hC.2.1 (hC.2.2.2.2.2.1.trans hr) hn (fun t ht hW => ⟨rfl, by rw [ht]; exact hR⟩) hq hd hC.2.2.2.2.2.2.1
theorem x_vret (hE : xEnd G C none h) (hr : M.2.2.2.1 = none) (hd : decode M.1 pc = .ok (.return_, 1)) : X G C M pc lv [] h := by
  obtain ⟨e1, e2, e3⟩ := hE
  refine ⟨⟨by rw [e2]; exact Nat.le_refl _, by rw [e3]; exact Nat.le_refl _⟩, fun hC b1 b2 ls H locs hl hR hq => ?_⟩
  unfold xW
  rw [e1]
  exact W.vret hC.1 hC.2.1 (hC.2.2.2.2.2.1.trans hr) (fun t ht hW => ⟨rfl, by rw [ht]; exact hR⟩) hq hd hC.2.2.2.2.2.2.1
theorem x_aret {a : Nat} {ty : FieldType} (hE : xEnd G C (some (.ref a)) h) (hr : M.2.2.2.1 = some ty) (hty : (∃ n, ty = .object n) ∨ ∃ t, ty = .array t) (hd : decode M.1 pc = .ok (.areturn, 1)) : X G C M pc lv [.ref a] h := by
  obtain ⟨e1, e2, e3⟩ := hE
  refine ⟨⟨by rw [e2]; exact Nat.le_refl _, by rw [e3]; exact Nat.le_refl _⟩, fun hC b1 b2 ls H locs hl hR hq => ?_⟩
  unfold xW
  rw [e1]
  refine W.aret (v := va_rf (xro G a)) hC.1 hC.2.1 (hC.2.2.2.2.2.1.trans hr) hty ?_ (fun t ht hW => ⟨rfl, by rw [ht]; exact hR⟩) hq hd hC.2.2.2.2.2.2.1
  cases xro G a with
  | none => exact Or.inl rfl
  | some q => exact Or.inr ⟨q, rfl⟩
theorem xcat_sum (st : List Value) : ((st.map (xrv G)).map fun v => v.category).sum = (st.map fun v => v.category).sum := by
  rw [List.map_map]
  congr 1
  refine List.map_congr_left (fun v _ => ?_)
  exact xrv_cat v
/-- behind a call -/
theorem x_go {av st0 : List Value} (hX : XR G C.1.2.1 M' av h r h1) (kk : X G C M (pc + 3) lv (r.toList ++ st) h1)
    (run : xOK G C M → ∀ (ls : Array Slot) (H : Heap) (locs : List Loc) (cells slots : Nat), ls.size = M.2.2.1 → xHR G h H → cells + (h1.2.1 - h.2.1) ≤ C.1.2.2.2.cells ∧ slots + (h1.2.2 - h.2.2) ≤ C.1.2.2.2.slots →
      va_Run C.1.1 C.1.2.1 C.1.2.2.1 C.1.2.2.2 C.2.1.1 C.2.1.2.1 C.2.1.2.2.1 C.2.1.2.2.2 C.2.2.1.1 C.2.2.1.2.1 H locs cells slots (h1.2.1 - h.2.1) (h1.2.2 - h.2.2) (F0 C.2.1.2.1 pc ls (st0.map (xrv G))) (st.map (xrv G)) (xQc G r h1 (av.map (xrv G)).toArray) (xFr G)) : X G C M pc lv st0 h := by
  obtain ⟨⟨m1, m2⟩, -⟩ := hX
  obtain ⟨⟨g1, g2⟩, k⟩ := kk
  refine ⟨⟨Nat.le_trans m1 g1, Nat.le_trans m2 g2⟩, fun hC b1 b2 ls H locs hl hR hq T hT XS => ?_⟩
  obtain ⟨-, -, -, -, -, -, -, -, -, -, -, -, hc, hs, -⟩ := id hC
  have k := k hC (Nat.le_trans b1 m1) (Nat.le_trans b2 m2)
  obtain ⟨v, st9, t, T', L, -, X', hL, e1, e2, ⟨hv, hR1⟩, go⟩ := run hC ls H locs (h.2.1 - C.2.2.2.1.1) (h.2.2 - C.2.2.2.1.2) hl.1 hR ⟨by omega, by omega⟩ T hT XS
  have hv : v = r.map (xrv G) := by injection hv
  have k9 := k ls T'.heap (locs ++ L) hl (by rw [e1]; exact hR1) (fun q hq9 => by
    rcases List.mem_append.mp hq9 with e | e
    · exact hq q e
    · exact hL q e)
  have f1 : h1.2.1 - C.2.2.2.1.1 = h.2.1 - C.2.2.2.1.1 + (h1.2.1 - h.2.1) := by omega
  have f2 : h1.2.2 - C.2.2.2.1.2 = h.2.2 - C.2.2.2.1.2 + (h1.2.2 - h.2.2) := by omega
  rw [f1, f2] at k9
  have f3 : (r.toList ++ st).map (xrv G) = v.toList ++ st.map (xrv G) := by
    rw [hv, List.map_append]
    cases r <;> rfl
  rw [f3] at k9
  obtain ⟨t9, a9, q9⟩ := k9 T' rfl X'
  exact ⟨t9, go t9 a9, q9⟩
def xMD (M : xM) (n : Nat) : Prop := M.2.1.cls ≠ "java/lang/invoke/MethodHandle" ∧ M.2.1.cls ≠ "java/lang/invoke/VarHandle" ∧ (parseMethodDescriptor M.2.1.desc).map (fun d => d.parameters.length) = some n
abbrev xFit (M' M : xM) : Prop := M'.2.2.2.2 + 1 ≤ M.2.2.2.2 ∧ M'.2.2.1 ≤ 45
theorem xfit {M M' : xM} (hC : xOK G C M) (hf : xFit M' M) : (xRm M'.2.2.2.2 h h1).frames + 1 ≤ C.1.2.2.2.frames ∧ 8 + (M'.2.2.1 + 11) + (xRm M'.2.2.2.2 h h1).locals ≤ C.1.2.2.2.locals := by
  obtain ⟨-, -, -, -, -, -, -, -, -, -, f1, f2, -, -, -⟩ := hC
  obtain ⟨a, b⟩ := hf
  refine ⟨Nat.le_trans a f1, Nat.le_trans ?_ f2⟩
  show 8 + (M'.2.2.1 + 11) + 64 * M'.2.2.2.2 ≤ _
  omega
/-- the receiver: an object of the class ci -/
theorem x_rcv {b ci : Nat} {q : vw_C} {U : State} {H : Heap} (hW : xWD G U) (hR : xHR G h H) (hb : gC h b = ci) (hq : xCl[ci]? = some q) : xrv G (.ref b) = .ref (xmu G b) ∧ ∃ cell : Cell, H[xmu G b]? = some cell ∧ cell.vm.isStatics = false ∧ U.vm.findClass q.1 = some cell.cls := by
  obtain ⟨fs, hx⟩ := gC_spec (h := h) (r := b) (S := [ci]) (by rw [hb]; exact List.mem_singleton_self _) (fun c hc => by rw [List.mem_singleton.mp hc]; exact ⟨q, hq⟩)
  rw [hb] at hx
  obtain ⟨a1, q9, cell, g1, g2, g3, g4, g5, g6⟩ := x_objc hW hR hx
  have e9 : q9 = q := Option.some.inj (g1.symm.trans hq)
  subst e9
  exact ⟨xrv_hi a1, cell, g2, g3, by rw [g5]; exact (hW.1.1 ci _ hq).2.1⟩
theorem xst_eq {As : List Value} {b : Nat} (e : xrv G (.ref b) = .ref (xmu G b)) : (As.reverse ++ .ref b :: st).map (xrv G) = (As.map (xrv G)).reverse ++ .ref (xmu G b) :: st.map (xrv G) := by
  rw [List.map_append, List.map_cons, List.map_reverse, e]
/-- a call through an object -/
theorem x_callV {ix n b ci : Nat} {As : List Value} {q : vw_C} (hX : XR G C.1.2.1 M' (.ref b :: As) h r h1) (hb : gC h b = ci) (hq : xCl[ci]? = some q) (hqn : M'.2.1.cls = q.1) (hmd : xMD M' n) (hf : xFit M' M)
    (w1 : Cond.methodLink M.2.1.cls ix M'.2.1 ∈ lw_all) (w2 : Cond.instanceMethod M'.2.1 ∈ lw_all) (w3 : Cond.selects q.1 M'.2.1 M'.2.1 ∈ lw_all) (w4 : Cond.initialized q.1 ∈ lw_all) (w5 : Cond.code M'.2.1 M'.1 M'.2.2.1 M'.2.2.2.1 ∈ lw_all)
    (hn : As.length = n) (hst : (st.map fun v => v.category).sum ≤ 8) (hd : decode M.1 pc = .ok (.invokevirtual ix, 3)) (kk : X G C M (pc + 3) lv (r.toList ++ st) h1) : X G C M pc lv (As.reverse ++ .ref b :: st) h := by
  refine x_go hX kk (fun hC ls H locs cells slots hsz hR hfit => ?_)
  have hWD := hC.2.2.2.2.2.2.2.2.1
  obtain ⟨e, hrc⟩ := x_rcv hWD hR hb hq
  rw [xst_eq e]
  rw [List.map_cons, e]
  exact va_runV (As := As.map (xrv G)) (rest := st.map (xrv G)) (g := F0 C.2.1.2.1 pc ls ((As.map (xrv G)).reverse ++ .ref (xmu G b) :: st.map (xrv G))) ⟨hC.1, hC.2.1, hC.2.2.2.1, hC.2.2.1, hC.2.2.2.2.1⟩ (hX.2 hC.2.2.2.2.2.2.2.2.2.2.2.2.2.2) (cwV n hC.2.2.2.2.1 (lw_V w1 w2 w3 w4 w5) rfl rfl rfl ⟨hqn, hmd⟩ (xfit hC hf)) ⟨xPc_blind _ _, hrc, fun U hU hW => by
    have h9 := xPc_at hC hR (.ref b :: As) U hU hW
    rw [List.map_cons, e] at h9
    exact h9⟩ rfl (by rw [List.length_map]; exact hn) hsz rfl (lv_room (by rw [xcat_sum]; exact hst)) hd hfit
/-- a static call -/
theorem x_callS {ix n : Nat} {As : List Value} (hX : XR G C.1.2.1 M' As h r h1) (hmd : xMD M' n) (hf : xFit M' M)
    (w1 : Cond.methodLink M.2.1.cls ix M'.2.1 ∈ lw_all) (w2 : Cond.static M'.2.1 ∈ lw_all) (w3 : Cond.initialized M'.2.1.cls ∈ lw_all) (w5 : Cond.code M'.2.1 M'.1 M'.2.2.1 M'.2.2.2.1 ∈ lw_all)
    (hn : As.length = n) (hst : (st.map fun v => v.category).sum ≤ 8) (hd : decode M.1 pc = .ok (.invokestatic ix, 3)) (kk : X G C M (pc + 3) lv (r.toList ++ st) h1) : X G C M pc lv (As.reverse ++ st) h := by
  refine x_go hX kk (fun hC ls H locs cells slots hsz hR hfit => ?_)
  rw [List.map_append, List.map_reverse]
  exact va_runS (As := As.map (xrv G)) (rest := st.map (xrv G)) (g := F0 C.2.1.2.1 pc ls ((As.map (xrv G)).reverse ++ st.map (xrv G))) ⟨hC.1, hC.2.1, hC.2.2.2.1, hC.2.2.1, hC.2.2.2.2.1⟩ (hX.2 hC.2.2.2.2.2.2.2.2.2.2.2.2.2.2) (va_cwS n hC.2.2.2.2.1 (lw_S w1 w2 w3 w5) rfl rfl rfl hmd (xfit hC hf)) ⟨xPc_blind _ _, xPc_at hC hR As⟩ rfl (by rw [List.length_map]; exact hn) hsz rfl (lv_room (by rw [xcat_sum]; exact hst)) hd hfit
/-- a constructor's call -/
theorem x_callI {ix n b : Nat} {As : List Value} (hX : XR G C.1.2.1 M' (.ref b :: As) h none h1) (hb : 6 ≤ b) (hmd : xMD M' n) (hf : xFit M' M) (hin : M'.2.1.name = "<init>") (hret : M'.2.2.2.1 = none)
    (w1 : Cond.methodLink M.2.1.cls ix M'.2.1 ∈ lw_all) (w2 : Cond.instanceMethod M'.2.1 ∈ lw_all) (w4 : Cond.initialized M'.2.1.cls ∈ lw_all) (w5 : Cond.code M'.2.1 M'.1 M'.2.2.1 none ∈ lw_all)
    (hn : As.length = n) (hst : (st.map fun v => v.category).sum ≤ 8) (hd : decode M.1 pc = .ok (.invokespecial ix, 3)) (kk : X G C M (pc + 3) lv st h1) : X G C M pc lv (As.reverse ++ .ref b :: st) h := by
  refine x_go (r := none) hX kk (fun hC ls H locs cells slots hsz hR hfit => ?_)
  have e : xrv G (.ref b) = .ref (xmu G b) := xrv_hi hb
  rw [xst_eq e]
  have hM := hX.2 hC.2.2.2.2.2.2.2.2.2.2.2.2.2.2
  rw [hret] at hM
  rw [List.map_cons, e]
  exact va_runI (As := As.map (xrv G)) (rest := st.map (xrv G)) (g := F0 C.2.1.2.1 pc ls ((As.map (xrv G)).reverse ++ .ref (xmu G b) :: st.map (xrv G))) ⟨hC.1, hC.2.1, hC.2.2.2.1, hC.2.2.1, hC.2.2.2.2.1⟩ hM (cwI n hC.2.2.2.2.1 (lw_meth w5) rfl rfl rfl (hC.2.2.2.2.1 _ w4) (hC.2.2.2.2.1 _ w1) (hC.2.2.2.2.1 _ w2) hin hmd (xfit hC hf)) ⟨xPc_blind _ _, fun U hU hW => by
    have h9 := xPc_at hC hR (.ref b :: As) U hU hW
    rw [List.map_cons, e] at h9
    exact h9⟩ rfl (by rw [List.length_map]; exact hn) hsz rfl (lv_room (by rw [xcat_sum]; exact hst)) hd hfit
/-- Object's constructor -/
theorem x_oinit {ix b : Nat} (hb : 6 ≤ b) (hf : 1 ≤ M.2.2.2.2) (w1 : Cond.methodLink M.2.1.cls ix Lib.objectInit ∈ lw_all) (w2 : Cond.instanceMethod Lib.objectInit ∈ lw_all) (w3 : Cond.code Lib.objectInit ⟨#[0xb1]⟩ 1 none ∈ lw_all) (hst : (st.map fun v => v.category).sum ≤ 8) (hd : decode M.1 pc = .ok (.invokespecial ix, 3)) (kk : X G C M (pc + 3) lv st h) : X G C M pc lv (.ref b :: st) h := X.step kk (fun hC ls H locs cells slots hl k => by
  show xW C H locs cells slots (F0 C.2.1.2.1 pc ls (xrv G (.ref b) :: st.map (xrv G)))
  rw [xrv_hi hb]
  obtain ⟨-, -, -, -, -, -, -, -, -, -, f1, f2, -, -, -⟩ := id hC
  exact W.objInit hC.1 hC.2.1 hC.2.2.1 (hC.2.2.2.2.1 _ w1) (hC.2.2.2.2.1 _ w2) (hC.2.2.2.2.1 _ w3) (g := F0 C.2.1.2.1 pc ls (.ref (xmu G b) :: st.map (xrv G))) rfl (hl.1.trans hC.2.2.2.1.symm) rfl hd (Nat.le_trans hf f1) (by rw [xcat_sum]; show 2 * 0 + _ + 12 ≤ _; omega) k)
end XCall
