section XS
variable {G : xG} {C : xC} {M : xM} {pc : Nat} {lv : List (Nat × Value)} {st : List Value} {h : mH}
theorem xlocs {locs : List Loc} {r k : Nat} (hq : ∀ q ∈ locs, G.1 ≤ q.base) (hr : 100 ≤ r) : ∀ q ∈ locs ++ [(⟨xmu G r, k⟩ : Loc)], G.1 ≤ q.base := by
  intro q hq9
  rcases List.mem_append.mp hq9 with e | e
  · exact hq q e
  · rw [List.mem_singleton.mp e]
    show G.1 ≤ xmu G r
    rw [xmu_own hr]
    omega
theorem sI_spec {ty : FieldType} {r : Nat} {i x : Int32} {h' : mH} (hv : sI ty h r i x = some h') : ∃ (n : Nat) (f : Nat → Int32), h.1 r = some (.inl (ty, n, .inl f)) ∧ 0 ≤ i ∧ i.toNatClampNeg < n ∧ 100 ≤ r ∧ h' = xup h r (.inl (ty, n, .inl (upd f i.toNatClampNeg (vp_nar ty x)))) := by
  unfold sI at hv
  split at hv
  · rename_i t n f h1
    split at hv
    · rename_i h2
      obtain ⟨rfl, h3, h4, h5⟩ := h2
      cases hv
      exact ⟨n, f, h1, h3, h4, h5, rfl⟩
    · cases hv
  · cases hv
theorem x_iast {r : Nat} {i x : Int32} {h' : mH} (hv : sI .int h r i x = some h') (hd : decode M.1 pc = .ok (.iastore, 1)) (kk : X G C M (pc + 1) lv st h') : X G C M pc lv (.int x :: .int i :: .ref r :: st) h := by
  obtain ⟨n, f, h1, h2, h3, h4, rfl⟩ := sI_spec hv
  refine X.stepW kk rfl (fun hC ls H locs cells slots hR hq kw => ?_)
  obtain ⟨a1, a2, a3⟩ := hR.2.2.2 r _ h1
  have hWD := hC.2.2.2.2.2.2.2.2.1
  show xW C H locs cells slots (F0 C.2.1.2.1 pc ls (.int x :: .int i :: xrv G (.ref r) :: st.map (xrv G)))
  rw [xrv_hi a1]
  have hin := xin_of h2 h3
  have a3 : H[xmu G r]? = some (vp_cell (G.2.2.2.2.1 .int) (n, .inl f)) := xAt.at h4 a3
  refine W.iast hC.1 hC.2.1 a3 ((hWD.arr (t := .int) (by decide)).1 n (fun j => .int (f j))) (fun q => by cases q) (by show ¬ (i < 0 ∨ (arrV _ _ _).slots.size ≤ _); rw [arrV_size]; exact hin) rfl rfl hd fun H1 e z oq => ?_
  refine kw H1 _ (hR.put hWD.2.2.2.2.2 h4 a2 ?_ z oq) (xlocs hq h4)
  show H1[xmu G r]? = some (vp_cell _ (n, .inl _))
  rw [e]
  rw [vp_cell_i, vp_cell_i, arrV_store]
  congr 2
  funext q
  by_cases hq : q = i.toNatClampNeg
  · subst hq
    simp [updV, upd, vp_nar, narrow]
  · simp [updV, upd, hq]
theorem x_bast {r : Nat} {i x : Int32} {h' : mH} (hv : sI .byte h r i x = some h') (hd : decode M.1 pc = .ok (.bastore, 1)) (kk : X G C M (pc + 1) lv st h') : X G C M pc lv (.int x :: .int i :: .ref r :: st) h := by
  obtain ⟨n, f, h1, h2, h3, h4, rfl⟩ := sI_spec hv
  refine X.stepW kk rfl (fun hC ls H locs cells slots hR hq kw => ?_)
  obtain ⟨a1, a2, a3⟩ := hR.2.2.2 r _ h1
  have hWD := hC.2.2.2.2.2.2.2.2.1
  show xW C H locs cells slots (F0 C.2.1.2.1 pc ls (.int x :: .int i :: xrv G (.ref r) :: st.map (xrv G)))
  rw [xrv_hi a1]
  have hin := xin_of h2 h3
  have a3 : H[xmu G r]? = some (vp_cell (G.2.2.2.2.1 .byte) (n, .inl f)) := xAt.at h4 a3
  refine W.bast hC.1 hC.2.1 a3 ((hWD.arr (t := .byte) (by decide)).1 n (fun j => .int (f j))) (fun q => by cases q) (by show ¬ (i < 0 ∨ (arrV _ _ _).slots.size ≤ _); rw [arrV_size]; exact hin) rfl rfl hd fun H1 e z oq => ?_
  refine kw H1 _ (hR.put hWD.2.2.2.2.2 h4 a2 ?_ z oq) (xlocs hq h4)
  show H1[xmu G r]? = some (vp_cell _ (n, .inl _))
  rw [e]
  rw [vp_cell_i, vp_cell_i, arrV_store]
  congr 2
  funext q
  by_cases hq : q = i.toNatClampNeg
  · subst hq
    simp [updV, upd, vp_nar, narrow]
  · simp [updV, upd, hq]
theorem x_zast {r : Nat} {i x : Int32} {h' : mH} (hv : sI .boolean h r i x = some h') (hd : decode M.1 pc = .ok (.bastore, 1)) (kk : X G C M (pc + 1) lv st h') : X G C M pc lv (.int x :: .int i :: .ref r :: st) h := by
  obtain ⟨n, f, h1, h2, h3, h4, rfl⟩ := sI_spec hv
  refine X.stepW kk rfl (fun hC ls H locs cells slots hR hq kw => ?_)
  obtain ⟨a1, a2, a3⟩ := hR.2.2.2 r _ h1
  have hWD := hC.2.2.2.2.2.2.2.2.1
  show xW C H locs cells slots (F0 C.2.1.2.1 pc ls (.int x :: .int i :: xrv G (.ref r) :: st.map (xrv G)))
  rw [xrv_hi a1]
  have hin := xin_of h2 h3
  have a3 : H[xmu G r]? = some (vp_cell (G.2.2.2.2.1 .boolean) (n, .inl f)) := xAt.at h4 a3
  refine W.zast hC.1 hC.2.1 a3 ((hWD.arr (t := .boolean) (by decide)).1 n (fun j => .int (f j))) (fun q => by cases q) (by show ¬ (i < 0 ∨ (arrV _ _ _).slots.size ≤ _); rw [arrV_size]; exact hin) rfl rfl hd fun H1 e z oq => ?_
  refine kw H1 _ (hR.put hWD.2.2.2.2.2 h4 a2 ?_ z oq) (xlocs hq h4)
  show H1[xmu G r]? = some (vp_cell _ (n, .inl _))
  rw [e]
  rw [vp_cell_i, vp_cell_i, arrV_store]
  congr 2
  funext q
  by_cases hq : q = i.toNatClampNeg
  · subst hq
    simp [updV, upd, vp_nar, narrow]
  · simp [updV, upd, hq]
theorem x_last {r : Nat} {i : Int32} {x : Int64} {h' : mH} (hv : sL h r i x = some h') (hd : decode M.1 pc = .ok (.lastore, 1)) (kk : X G C M (pc + 1) lv st h') : X G C M pc lv (.long x :: .int i :: .ref r :: st) h := by
  unfold sL at hv
  split at hv
  · rename_i t n f h1
    split at hv
    · rename_i h2
      obtain ⟨rfl, h2, h3, h4⟩ := h2
      cases hv
      refine X.stepW kk rfl (fun hC ls H locs cells slots hR hq kw => ?_)
      obtain ⟨a1, a2, a3⟩ := hR.2.2.2 r _ h1
      have hWD := hC.2.2.2.2.2.2.2.2.1
      show xW C H locs cells slots (F0 C.2.1.2.1 pc ls (.long x :: .int i :: xrv G (.ref r) :: st.map (xrv G)))
      rw [xrv_hi a1]
      have hin := xin_of h2 h3
      have a3 : H[xmu G r]? = some (vp_cell (G.2.2.2.2.1 .long) (n, .inr (.inl f))) := xAt.at h4 a3
      refine W.last hC.1 hC.2.1 a3 ((hWD.arr (t := .long) (by decide)).1 n (fun j => .long (f j))) (fun q => by cases q) (by show ¬ (i < 0 ∨ (arrV _ _ _).slots.size ≤ _); rw [arrV_size]; exact hin) rfl rfl hd fun H1 e z oq => ?_
      refine kw H1 _ (hR.put hWD.2.2.2.2.2 h4 a2 ?_ z oq) (xlocs hq h4)
      show H1[xmu G r]? = some (vp_cell _ (n, .inr (.inl _)))
      rw [e]
      rw [vp_cell_l, vp_cell_l, arrV_store]
      congr 2
      funext q
      by_cases hq : q = i.toNatClampNeg
      · subst hq
        simp [updV, vp_updL]
      · simp [updV, vp_updL, hq]
    · cases hv
  · cases hv
/-- what may lie in an array of references to E: an object of a class that can be cast to E -/
def xCast (E : String) (ci : Nat) : Prop := ∃ r : vw_C, xCl[ci]? = some r ∧ (E = r.1 ∨ Cond.castable r.1 E ∈ lw_tbl)
def sR (E : String) (S : List Nat) (h : mH) (r : Nat) (i : Int32) (x : Nat) : Option mH := match h.1 r with
  | some (.inl (t, n, .inr (.inr f))) => if t = .object E ∧ 0 ≤ i ∧ i.toNatClampNeg < n ∧ (100 ≤ r ∧ 100 ≤ x) ∧ gC h x ∈ S then some (xup h r (.inl (t, n, .inr (.inr (fun j => if j = i.toNatClampNeg then x else f j))))) else none
  | _ => none
theorem gC_spec {S : List Nat} {r : Nat} (hs : gC h r ∈ S) (h9 : ∀ c ∈ S, ∃ q : vw_C, xCl[c]? = some q) : ∃ fs : List Value, h.1 r = some (.inr (gC h r, fs)) := by
  unfold gC at hs ⊢
  split
  · rename_i ci fs h1
    exact ⟨fs, h1⟩
  · rename_i h1
    split at hs
    · rename_i ci fs h2
      exact absurd h2 (h1 ci fs)
    · obtain ⟨q, hq⟩ := h9 _ hs
      exact absurd (List.getElem?_eq_some_iff.mp hq).1 (by decide)
theorem xcast_asg {U : State} (hW : xWD G U) {E : String} {ci : Nat} (hc : xCast E ci) {q : vw_C} (hq : xCl[ci]? = some q) : ∀ comp c0 : ClassId, U.vm.findClass E = some comp → U.vm.findClass q.1 = some c0 → U.vm.assignable c0 comp = true := by
  intro comp c0 h1 h2
  obtain ⟨r, hr, h3⟩ := hc
  have e : r = q := Option.some.inj (hr.symm.trans hq)
  subst e
  rcases h3 with e | e
  · rw [e, h2] at h1
    cases h1
    exact va_asg _ _
  · have h4 : (Cond.castable r.1 E).before #[] U = true := hW.2.1 _ e rfl
    obtain ⟨c1, t1, g1, g2, g3⟩ := Cond.castable_spec h4
    rw [h2] at g1
    rw [h1] at g2
    cases g1
    cases g2
    exact g3
theorem x_aast {E : String} {S : List Nat} {r : Nat} {i : Int32} {x : Nat} {h' : mH} (hE : FieldType.object E ∈ xTy) (hS : ∀ c ∈ S, xCast E c) (hv : sR E S h r i x = some h') (hd : decode M.1 pc = .ok (.aastore, 1)) (kk : X G C M (pc + 1) lv st h') : X G C M pc lv (.ref x :: .int i :: .ref r :: st) h := by
  unfold sR at hv
  split at hv
  · rename_i t n f h1
    split at hv
    · rename_i h2
      obtain ⟨rfl, h2, h3, ⟨h4, h49⟩, h5⟩ := h2
      cases hv
      refine X.stepW kk rfl (fun hC ls H locs cells slots hR hq kw => ?_)
      obtain ⟨a1, a2, a3⟩ := hR.2.2.2 r _ h1
      obtain ⟨fs, hx⟩ := gC_spec h5 (fun c hc => by obtain ⟨q, hq, -⟩ := hS c hc; exact ⟨q, hq⟩)
      obtain ⟨b1, b2, b3⟩ := hR.2.2.2 x _ hx
      have hWD := hC.2.2.2.2.2.2.2.2.1
      show xW C H locs cells slots (F0 C.2.1.2.1 pc ls (xrv G (.ref x) :: .int i :: xrv G (.ref r) :: st.map (xrv G)))
      rw [xrv_hi a1, xrv_hi b1]
      have hc := hS _ h5
      obtain ⟨q, hq9, -⟩ := id hc
      obtain ⟨cellV, g1, g3, ⟨kC, hkC⟩, hasg⟩ := va_rAny hWD.1 (xP1 (xAt.at h49 b3)) (q0 := 0) rfl hq9 (xcast_asg hWD hc hq9)
      obtain ⟨kA, comp, k1, k2, k3, -⟩ := (hWD.arr hE).2
      obtain ⟨kE, hkE, -⟩ := Vm.findClass_spec k3
      have a3 : H[xmu G r]? = some (vp_cell (G.2.2.2.2.1 (.object E)) (n, .inr (.inr (.inr (.inr (fun j => xro G (f j))))))) := xAt.at h4 a3
      refine W.aast hC.1 hC.2.1 a3 (fun q h => by cases h) (fun h => by cases h) k1 k2 rfl hkE ⟨Int32.not_lt.mpr h2, by show _ < (arrV _ _ _).slots.size; rw [arrV_size]; exact h3⟩ g1 (fun q h => by rw [h] at g3; cases g3) hkC (hasg _ k3) rfl rfl hd fun H1 e z oq => ?_
      refine kw H1 _ (hR.put hWD.2.2.2.2.2 h4 a2 ?_ z oq) (xlocs hq h4)
      show H1[xmu G r]? = some (vp_cell _ (n, .inr (.inr (.inr (.inr _)))))
      rw [e]
      rw [vp_cell_q, vp_cell_q, arrV_store]
      congr 2
      funext j
      by_cases hj : j = i.toNatClampNeg
      · subst hj
        simp [updV, xro_hi b1, va_rf]
      · simp [updV, hj]
    · cases hv
  · cases hv
/-- newarray -/
theorem x_newa {at_ : ArrayType} {ty : FieldType} {n : Int32} {q : Nat} {h' : mH} (hty : newarray.typeOf at_ = ty) (ht : ty = .int ∨ ty = .byte ∨ ty = .long ∨ ty = .boolean) (hw : Cond.arrayClass ty ∈ lw_all) (hv : nA ty h n = some (q, h')) (hd : decode M.1 pc = .ok (.newarray at_, 2)) (kk : X G C M (pc + 2) lv (.ref q :: st) h') : X G C M pc lv (.int n :: st) h := by
  unfold nA at hv
  split at hv
  · rename_i h2
    obtain ⟨h2, h3⟩ := h2
    cases hv
    refine X.stepN kk (fun hC ls H locs cells slots hR b1 b2 kw => ?_)
    have hWD := hC.2.2.2.2.2.2.2.2.1
    subst hty
    have hin : newarray.typeOf at_ ∈ xTy := by rcases ht with e | e | e | e <;> rw [e] <;> decide
    refine va_newaK hC.1 hC.2.1 (hC.2.2.2.2.1 _ hw) (g := F0 C.2.1.2.1 pc ls (.int n :: st.map (xrv G))) rfl hd rfl (Int32.not_lt.mpr h2) rfl (by rcases ht with e | e | e | e <;> rw [e] <;> show n.toNatClampNeg * _ ≤ _ <;> simp only [componentBytes] <;> omega) b1 b2 rfl fun H1 cA e1 z1 o1 hAr hNm => ?_
    have hcA : cA = G.2.2.2.2.1 (newarray.typeOf at_) := by
      have h9 := (hWD.arr hin).2
      rcases ht with e | e | e | e <;> rw [e] at h9 hNm ⊢ <;> exact Option.some.inj (hNm.symm.trans h9)
    have hsz : xmu G h.2.1 = H.size := by rw [xmu_own hR.1, hR.2.1]; rfl
    have hh : xrv G (.ref h.2.1) = .ref H.size := by
      have h1 : 100 ≤ h.2.1 := hR.1
      rw [xrv_hi (by omega), hsz]
    have k9 := kw H1 (hR.new hWD.2.2.2.2.2 (n := n.toNatClampNeg) ?_ z1 o1)
    · have k9 : xW C H1 locs (cells + 1) (slots + n.toNatClampNeg) (F0 C.2.1.2.1 (pc + 2) ls (xrv G (.ref h.2.1) :: st.map (xrv G))) := k9
      rw [hh] at k9
      exact k9
    · rw [hcA] at e1
      show H1[H.size]? = some (vp_cell (G.2.2.2.2.1 (newarray.typeOf at_)) (xra G n.toNatClampNeg _))
      rw [e1]
      rcases ht with e | e | e | e <;> rw [e] <;> rfl
  · cases hv
/-- anewarray -/
theorem x_newq {E : String} {ix : Nat} {n : Int32} {q : Nat} {h' : mH} (hE : FieldType.object E ∈ xTyR) (hl : Cond.classLink M.2.1.cls ix E ∈ lw_all) (hv : nR E h n = some (q, h')) (hd : decode M.1 pc = .ok (.anewarray ix, 3)) (kk : X G C M (pc + 3) lv (.ref q :: st) h') : X G C M pc lv (.int n :: st) h := by
  unfold nR at hv
  split at hv
  · rename_i h2
    obtain ⟨h2, h3⟩ := h2
    cases hv
    refine X.stepN kk (fun hC ls H locs cells slots hR b1 b2 kw => ?_)
    have hWD := hC.2.2.2.2.2.2.2.2.1
    have hover : va_AO E C.2.1.1 := by
      simp only [xTyR, List.mem_cons, List.not_mem_nil, or_false, FieldType.object.injEq] at hE
      rcases hE with rfl | rfl | rfl
      · exact hWD.2.2.1
      · exact hWD.2.2.2.1
      · exact hWD.2.2.2.2.1
    refine W.anew hC.1 hC.2.1 hC.2.2.1 (hC.2.2.2.2.1 _ hl) (va_AO.use hover) (g := F0 C.2.1.2.1 pc ls (.int n :: st.map (xrv G))) rfl hd rfl (Int32.not_lt.mpr h2) (by omega) b1 b2 fun cA kA comp f1 f2 f3 f4 => ?_
    generalize hH1 : H.push ({ cls := cA, slots := Array.replicate n.toNatClampNeg .null, vm := .none } : Cell) = H1
    have z1 : H1.size = H.size + 1 := by rw [← hH1, Array.size_push]
    have e1 : H1[H.size]? = some (arrV cA n.toNatClampNeg (fun _ => .null)) := by rw [← hH1, Array.getElem?_push_size, ← arrV_new]
    have o1 : ∀ q : Nat, q < H.size → H1[q]? = H[q]? := fun q hq => by rw [← hH1, Array.getElem?_push, if_neg (Nat.ne_of_lt hq)]
    have hcA : cA = G.2.2.2.2.1 (.object E) := by
      obtain ⟨kA9, comp9, -, -, -, k4⟩ := (hWD.arr (xTyR_sub hE).1).2
      exact Option.some.inj (f1.symm.trans k4)
    have hsz : xmu G h.2.1 = H.size := by rw [xmu_own hR.1, hR.2.1]; rfl
    have hh : xrv G (.ref h.2.1) = .ref H.size := by
      have h1 : 100 ≤ h.2.1 := hR.1
      rw [xrv_hi (by omega), hsz]
    have k9 := kw H1 (hR.new hWD.2.2.2.2.2 (n := n.toNatClampNeg) ?_ z1 o1)
    · have k9 : xW C H1 locs (cells + 1) (slots + n.toNatClampNeg) (F0 C.2.1.2.1 (pc + 3) ls (xrv G (.ref h.2.1) :: st.map (xrv G))) := k9
      rw [hh] at k9
      exact k9
    · rw [hcA] at e1
      show H1[H.size]? = some (vp_cell (G.2.2.2.2.1 (.object E)) (xra G n.toNatClampNeg (.inr (.inr (fun _ => 0)))))
      rw [e1]
      rfl
  · cases hv
def dvM (t : FieldType) : Value := match t with
  | .long => .long 0
  | .object _ => .ref 0
  | .array _ => .ref 0
  | _ => .int 0
/-- a new object: N of its fields are listed, n its slots -/
theorem x_new {ci ix N n : Nat} {D : String} {T : u_T} {ty : Nat → FieldType} {fs : List Value} (hc : xCI ci D T N ty) (hcl : Cond.classLink M.2.1.cls ix D ∈ lw_all) (hin : Cond.instantiable D n ∈ lw_all) (hini : Cond.initialized D ∈ lw_all) (hfs : ∀ j, j < N → xrv G (vp_V fs j) = defaultValue (ty j)) (hlen : fs.length = N) (hd : decode M.1 pc = .ok (.new ix, 3)) (kk : X G C M (pc + 3) lv (.ref h.2.1 :: st) (xnw h (.inr (ci, fs)) n)) : X G C M pc lv st h := by
  refine X.stepN kk (fun hC ls H locs cells slots hR b1 b2 kw => ?_)
  have hWD := hC.2.2.2.2.2.2.2.2.1
  have hts := hC.2.2.2.2.1
  have hKn := hWD.1.1 ci _ hc.1
  refine W.newcK hC.1 hC.2.1 hC.2.2.1 (hts _ hcl) (hts _ hin) (hts _ hini) (g := F0 C.2.1.2.1 pc ls (st.map (xrv G))) rfl hd b1 b2 hKn.2.1 rfl fun H1 kC hkC e1 z1 o1 => ?_
  have hsz : xmu G h.2.1 = H.size := by rw [xmu_own hR.1, hR.2.1]; rfl
  have hh : xrv G (.ref h.2.1) = .ref H.size := by
    have h1 : 100 ≤ h.2.1 := hR.1
    rw [xrv_hi (by omega), hsz]
  have k9 := kw H1 (hR.new hWD.2.2.2.2.2 (n := n) ?_ z1 o1)
  · have k9 : xW C H1 locs (cells + 1) (slots + n) (F0 C.2.1.2.1 (pc + 3) ls (xrv G (.ref h.2.1) :: st.map (xrv G))) := k9
    rw [hh] at k9
    exact k9
  · refine ⟨_, hc.1, (u_born ty hts hc.2.1 hKn hkC e1 hc.2.2.1).to (fun j hj => ?_)⟩
    rw [← hfs j hj]
    show xrv G (fs.getD j .null) = (fs.map (xrv G)).getD j .null
    rw [List.getD_eq_getElem?_getD, List.getD_eq_getElem?_getD, List.getElem?_map]
    have hj9 : j < fs.length := by rw [hlen]; exact hj
    rw [List.getElem?_eq_getElem hj9]
    rfl
end XS
