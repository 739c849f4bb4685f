section XP
variable {G : xG} {C : xC} {M : xM} {pc : Nat} {lv : List (Nat × Value)} {st : List Value} {h : mH}
theorem pF_spec {S : List Nat} {k r : Nat} {v : Value} {h' : mH} (hv : pF S k v h r = some h') : ∃ (ci : Nat) (fs : List Value), h.1 r = some (.inr (ci, fs)) ∧ ci ∈ S ∧ 100 ≤ r ∧ k < fs.length ∧ h' = xup h r (.inr (ci, fs.set k v)) := by
  unfold pF at hv
  split at hv
  · rename_i ci fs h1
    split at hv
    · rename_i h2
      cases hv
      exact ⟨ci, fs, h1, h2.1, h2.2.1, h2.2.2, rfl⟩
    · cases hv
  · cases hv
theorem xrv_fit (t : FieldType) (v : Value) (hf : fits t v = true) : fits t (xrv G v) = true := by
  cases v <;> first | exact hf | skip
  rename_i a
  show fits t (va_rf (xro G a)) = true
  cases t <;> first | (cases hf; done) | skip
  all_goals (cases xro G a <;> rfl)
theorem xrv_nar (t : FieldType) (v : Value) (hf : narrow t v = v) : narrow t (xrv G v) = xrv G v := by
  cases v <;> first | exact hf | skip
  rename_i a
  show narrow t (va_rf (xro G a)) = va_rf (xro G a)
  cases t <;> (cases xro G a <;> rfl)
/-- a putfield -/
theorem x_putf {S : List Nat} {k ix r : Nat} {v : Value} {t : FieldType} {h' : mH} (hF : xPd M.2.1.cls ix S k t M.2.1.name) (hn : narrow t v = v) (hf : fits t v = true) (hv : pF S k v h r = some h') (hd : decode M.1 pc = .ok (.putfield ix, 3)) (kk : X G C M (pc + 3) lv st h') : X G C M pc lv (v :: .ref r :: st) h := by
  obtain ⟨ci, fs, h1, h2, h3, h4, rfl⟩ := pF_spec hv
  refine X.stepW kk rfl (fun hC ls H locs cells slots hR hq kw => ?_)
  obtain ⟨a1, a2, a3⟩ := hR.2.2.2 r _ h1
  obtain ⟨D, T, N, ty0, ref, ⟨hc, hin, hty, hnm⟩, hk, hs, hpd, hw⟩ := hF ci h2
  have hWD := hC.2.2.2.2.2.2.2.2.1
  have hO : xOut G C.2.1.1 := hWD.2.2.2.2.2
  have hts := hC.2.2.2.2.1
  have hsame : ∀ x, C.2.1.1.fieldFound? (T k).1 (T k).2.1 (T k).2.2.1 = some x → C.2.1.1.fieldFound? ref (T k).2.1 (T k).2.2.1 = some x := by
    intro x hx
    rcases hs with e | e
    · rw [e]; exact hx
    · exact u_same (hts _ e) x hx
  show xW C H locs cells slots (F0 C.2.1.2.1 pc ls (xrv G v :: xrv G (.ref r) :: st.map (xrv G)))
  rw [xrv_hi a1]
  have hap := va_apart (own := M.2.1.cls) hts hin ty0 hty hnm hWD.1 hc
  obtain ⟨rr, g1, cell, q1, q2, q3, q4⟩ := xAt.at h3 a3
  have hr : rr = (D, T, N) := Option.some.inj (g1.symm.trans hc)
  subst hr
  obtain ⟨hS, hfc, kC, hkC, hkind⟩ := hWD.1.1 ci _ hc
  obtain ⟨cf, kf, fi, f, hi, hsl⟩ := hS k hk
  have hlay0 := u_lays hts hin hk
  have hst := (u_facts hfc hkC hlay0 hi).1
  have fin : ∀ (H' : Heap), H'[xmu G r]? = some (cell.setSlot f.slot (xrv G v)) → H'.size = H.size → (∀ q, q ≠ xmu G r → H'[q]? = H[q]?) → xW C H' (locs ++ [⟨xmu G r, f.slot⟩]) cells slots (F0 C.2.1.2.1 (pc + 3) ls (st.map (xrv G))) := by
    intro H' e1 e2 e3
    refine kw H' _ (hR.put hO h3 a2 ?_ e2 e3) (fun q hq9 => ?_)
    · rw [hsl] at e1
      refine ⟨_, hc, t_OB.to (V := updV (vp_V (fs.map (xrv G))) k (xrv G v)) ⟨_, e1, q2, q3, t_set q4 hap hk (xrv G v)⟩ (fun j _ => ?_)⟩
      rw [vp_updV_set (by rw [List.length_map]; exact h4) (xrv G v) j, List.map_set]
    · rcases List.mem_append.mp hq9 with e | e
      · exact hq q e
      · rw [List.mem_singleton.mp e]
        show G.1 ≤ xmu G r
        rw [xmu_own h3]
        omega
  rcases hw with ⟨hfin, hw⟩ | ⟨hfin, host, hw⟩
  · rcases hfin with hfin | ⟨hfin, hdecl, hini⟩
    · have hlay := hts _ (hin _ (u_in_lay hk))
      unfold u_lay at hlay
      rw [if_neg (by rw [hfin]; decide)] at hlay
      have h6 := u_store hfc hkC hkind hlay hi hpd (xrv_nar (G := G) t v hn) (xrv_fit (G := G) t v hf)
      exact W.putK hC.1 hC.2.1 (f := f) ⟨hC.2.2.1, hts _ hw, ⟨_, _, _, hsame _ hi⟩, hst⟩ (by rw [q2]; exact h6) q1 q3 (by rw [hsl]; exact k2_hasslot (q4 k hk)) rfl rfl hd fin
    · have hlay := hts _ (hin _ (u_in_lay hk))
      unfold u_lay at hlay
      rw [if_pos hfin] at hlay
      have hcf : C.2.1.2.1.cls = cf := by
        obtain ⟨_, _, c', _, _, _, -, -, hf', -, -, -, hown2, -⟩ := Cond.laysFinal_spec hlay
        have e1 : c' = cf := by have := hi.symm.trans hf'; simp at this; exact this.1.symm
        rw [hdecl] at hown2
        rw [← e1]; exact Option.some.inj (hC.2.2.1.symm.trans hown2)
      have h6 := u_fits hfc hkC hkind (Or.inr hlay) hi hpd (xrv_nar (G := G) t v hn) (xrv_fit (G := G) t v hf)
      have hin2 : C.2.2.1.1.name = "<init>" := hC.2.2.2.2.2.2.2.1.trans hini
      exact W.putFinK hC.1 hC.2.1 hC.2.2.1 (hts _ hw) (hsame _ hi) hst hcf hin2 (by rw [q2]; exact h6) q1 q3 (by rw [hsl]; exact k2_hasslot (q4 k hk)) rfl rfl hd fin
  · have hlay := hts _ (hin _ (u_in_lay hk))
    unfold u_lay at hlay
    rw [if_neg (by rw [hfin]; decide)] at hlay
    have h6 := u_store hfc hkC hkind hlay hi hpd (xrv_nar (G := G) t v hn) (xrv_fit (G := G) t v hf)
    exact va_WputK hC.1 hC.2.1 (f := f) hC.2.2.1 (va_Nw.use rfl (hWD.2.1 _ hw rfl)) (hsame _ hi) hst (by rw [q2]; exact h6) q1 q3 (by rw [hsl]; exact k2_hasslot (q4 k hk)) rfl rfl hd fin
/-- the array classes -/
theorem xWD.arr {U : State} (hW : xWD G U) {t : FieldType} (ht : t ∈ xTy) : ArrOfT U (G.2.2.2.2.1 t) t ∧ va_RA U (G.2.2.2.2.1 t) t := by
  obtain ⟨i, hi⟩ := List.getElem?_of_mem ht
  exact hW.1.2 i (G.2.2.2.2.1 t, t) (by unfold xtys; rw [List.getElem?_map, hi]; rfl)
theorem xWD.arrK {U : State} (hW : xWD G U) {t : FieldType} (ht : t ∈ xTy) : va_K G.2.2.2.1 xCl [(G.2.2.2.2.1 t, t)] U := by
  refine ⟨hW.1.1, fun k q hq => ?_⟩
  have hz : k < 1 := (List.getElem?_eq_some_iff.mp hq).1
  rw [show k = 0 by omega] at hq
  cases hq
  exact hW.arr ht
theorem xin_of {i : Int32} {n : Nat} (h0 : 0 ≤ i) (h1 : i.toNatClampNeg < n) : vp_in i n := by
  rintro (h | h)
  · exact absurd h0 (Int32.not_le.mpr h)
  · omega
/-- an array of the mini heap, own or outside, by its elements -/
theorem x_arr {U : State} {H : Heap} (hW : xWD G U) (hR : xHR G h H) {r n : Nat} {ty : FieldType} {a : mA} (hty : ty ∈ xTy) (h1 : h.1 r = some (.inl (ty, n, a))) : 6 ≤ r ∧ ∃ cell : Cell, H[xmu G r]? = some cell ∧ xCellA G U ty n a cell := by
  obtain ⟨a1, a2, a3⟩ := hR.2.2.2 r _ h1
  refine ⟨a1, ?_⟩
  rcases a3 with ⟨b1, b2⟩ | ⟨b1, b2⟩
  · have b1 : r < 100 := b1
    obtain ⟨cell, c1, c2⟩ := hW.2.2.2.2.2.2.2.2.2.2.2.2.2.1 r ty n a a1 b1 b2
    have e : xmu G r = G.2.1 r := by unfold xmu; rw [if_pos (show r < xK from b1)]
    refine ⟨cell, ?_, c2⟩
    rw [e, hR.2.2.1 _ (hW.2.2.2.2.2.2.1 r a1 b1)]
    exact c1
  · have b2 : H[xmu G r]? = some (vp_cell (G.2.2.2.2.1 ty) (xra G n a)) := b2
    refine ⟨_, b2, ?_⟩
    have hA := (hW.arr hty).1
    cases a with
    | inl f => exact ⟨hA n (fun j => .int (f j)), (fun q => by cases q), ⟨Nat.le_of_eq (arrV_size _ _ _).symm, congrArg Nat.toInt32 (arrV_size _ _ _)⟩, fun j hj => arrV_read _ (fun j => .int (f j)) hj⟩
    | inr a =>
      cases a with
      | inl f => exact ⟨hA n (fun j => .long (f j)), (fun q => by cases q), ⟨Nat.le_of_eq (arrV_size _ _ _).symm, congrArg Nat.toInt32 (arrV_size _ _ _)⟩, fun j hj => arrV_read _ (fun j => .long (f j)) hj⟩
      | inr f => exact ⟨hA n (fun j => va_rf (xro G (f j))), (fun q => by cases q), ⟨Nat.le_of_eq (arrV_size _ _ _).symm, congrArg Nat.toInt32 (arrV_size _ _ _)⟩, fun j hj => arrV_read _ (fun j => va_rf (xro G (f j))) hj⟩
theorem aI_spec {ty : FieldType} {r : Nat} {i x : Int32} (hv : aI ty h r i = some x) : ∃ (n : Nat) (f : Nat → Int32), h.1 r = some (.inl (ty, n, .inl f)) ∧ 0 ≤ i ∧ i.toNatClampNeg < n ∧ x = f i.toNatClampNeg := by
  unfold aI at hv
  split at hv
  · rename_i t n f h1
    split at hv
    · rename_i h2
      obtain ⟨rfl, h3, h4⟩ := h2
      cases hv
      exact ⟨n, f, h1, h3, h4, rfl⟩
    · cases hv
  · cases hv
theorem x_iald {r : Nat} {i x : Int32} (hv : aI .int h r i = some x) (hd : decode M.1 pc = .ok (.iaload, 1)) (kk : X G C M (pc + 1) lv (.int x :: st) h) : X G C M pc lv (.int i :: .ref r :: st) h := X.stepR kk (fun hC ls H locs cells slots hl hR kw => by
  obtain ⟨n, f, h1, h2, h3, rfl⟩ := aI_spec hv
  obtain ⟨a1, cell, g1, g2, g3, g4, g5⟩ := x_arr hC.2.2.2.2.2.2.2.2.1 hR (by decide) h1
  show xW C H locs cells slots (F0 C.2.1.2.1 pc ls (.int i :: xrv G (.ref r) :: st.map (xrv G)))
  rw [xrv_hi a1]
  exact W.iald (v := .int (f i.toNatClampNeg)) hC.1 hC.2.1 g1 g2 g3 (fun q => xin_of h2 h3 (q.imp id (fun q9 => Nat.le_trans g4.1 q9))) (g5 _ h3) rfl rfl hd kw)
theorem x_bald {r : Nat} {i x : Int32} (hv : aI .byte h r i = some x) (hd : decode M.1 pc = .ok (.baload, 1)) (kk : X G C M (pc + 1) lv (.int x :: st) h) : X G C M pc lv (.int i :: .ref r :: st) h := X.stepR kk (fun hC ls H locs cells slots hl hR kw => by
  obtain ⟨n, f, h1, h2, h3, rfl⟩ := aI_spec hv
  obtain ⟨a1, cell, g1, g2, g3, g4, g5⟩ := x_arr hC.2.2.2.2.2.2.2.2.1 hR (by decide) h1
  show xW C H locs cells slots (F0 C.2.1.2.1 pc ls (.int i :: xrv G (.ref r) :: st.map (xrv G)))
  rw [xrv_hi a1]
  exact W.bald (v := .int (f i.toNatClampNeg)) hC.1 hC.2.1 g1 g2 g3 (fun q => xin_of h2 h3 (q.imp id (fun q9 => Nat.le_trans g4.1 q9))) (g5 _ h3) rfl rfl hd kw)
theorem x_zald {r : Nat} {i x : Int32} (hv : aI .boolean h r i = some x) (hd : decode M.1 pc = .ok (.baload, 1)) (kk : X G C M (pc + 1) lv (.int x :: st) h) : X G C M pc lv (.int i :: .ref r :: st) h := X.stepR kk (fun hC ls H locs cells slots hl hR kw => by
  obtain ⟨n, f, h1, h2, h3, rfl⟩ := aI_spec hv
  obtain ⟨a1, cell, g1, g2, g3, g4, g5⟩ := x_arr hC.2.2.2.2.2.2.2.2.1 hR (by decide) h1
  show xW C H locs cells slots (F0 C.2.1.2.1 pc ls (.int i :: xrv G (.ref r) :: st.map (xrv G)))
  rw [xrv_hi a1]
  exact W.zald (v := .int (f i.toNatClampNeg)) hC.1 hC.2.1 g1 g2 g3 (fun q => xin_of h2 h3 (q.imp id (fun q9 => Nat.le_trans g4.1 q9))) (g5 _ h3) rfl rfl hd kw)
theorem aL_spec {r : Nat} {i : Int32} {x : Int64} (hv : aL h r i = some x) : ∃ (n : Nat) (f : Nat → Int64), h.1 r = some (.inl (.long, n, .inr (.inl f))) ∧ 0 ≤ i ∧ i.toNatClampNeg < n ∧ x = f i.toNatClampNeg := by
  unfold aL at hv
  split at hv
  · rename_i t n f h1
    split at hv
    · rename_i h2
      obtain ⟨rfl, h3, h4⟩ := h2
      cases hv
      exact ⟨n, f, h1, h3, h4, rfl⟩
    · cases hv
  · cases hv
theorem x_lald {r : Nat} {i : Int32} {x : Int64} (hv : aL h r i = some x) (hd : decode M.1 pc = .ok (.laload, 1)) (kk : X G C M (pc + 1) lv (.long x :: st) h) : X G C M pc lv (.int i :: .ref r :: st) h := X.stepR kk (fun hC ls H locs cells slots hl hR kw => by
  obtain ⟨n, f, h1, h2, h3, rfl⟩ := aL_spec hv
  obtain ⟨a1, cell, g1, g2, g3, g4, g5⟩ := x_arr hC.2.2.2.2.2.2.2.2.1 hR (by decide) h1
  show xW C H locs cells slots (F0 C.2.1.2.1 pc ls (.int i :: xrv G (.ref r) :: st.map (xrv G)))
  rw [xrv_hi a1]
  exact W.lald (v := .long (f i.toNatClampNeg)) hC.1 hC.2.1 g1 g2 g3 (fun q => xin_of h2 h3 (q.imp id (fun q9 => Nat.le_trans g4.1 q9))) (g5 _ h3) rfl rfl hd kw)
theorem aR_spec {r : Nat} {i : Int32} {x : Nat} (hv : aR h r i = some x) : ∃ (t : FieldType) (n : Nat) (f : Nat → Nat), h.1 r = some (.inl (t, n, .inr (.inr f))) ∧ t ∈ xTyR ∧ 0 ≤ i ∧ i.toNatClampNeg < n ∧ x = f i.toNatClampNeg := by
  unfold aR at hv
  split at hv
  · rename_i t n f h1
    split at hv
    · rename_i h2
      obtain ⟨h2, h3, h4⟩ := h2
      cases hv
      exact ⟨t, n, f, h1, h2, h3, h4, rfl⟩
    · cases hv
  · cases hv
theorem xTyR_sub {t : FieldType} (h : t ∈ xTyR) : t ∈ xTy ∧ ∃ E, t = .object E := by
  simp only [xTyR, List.mem_cons, List.not_mem_nil, or_false] at h
  rcases h with rfl | rfl | rfl
  · exact ⟨by decide, _, rfl⟩
  · exact ⟨by decide, _, rfl⟩
  · exact ⟨by decide, _, rfl⟩
theorem x_aald {r : Nat} {i : Int32} {x : Nat} (hv : aR h r i = some x) (hd : decode M.1 pc = .ok (.aaload, 1)) (kk : X G C M (pc + 1) lv (.ref x :: st) h) : X G C M pc lv (.int i :: .ref r :: st) h := X.stepR kk (fun hC ls H locs cells slots hl hR kw => by
  obtain ⟨t, n, f, h1, ht, h2, h3, rfl⟩ := aR_spec hv
  obtain ⟨ht, E, rfl⟩ := xTyR_sub ht
  obtain ⟨a1, cell, g1, g2, g3, g4, g5⟩ := x_arr hC.2.2.2.2.2.2.2.2.1 hR ht h1
  show xW C H locs cells slots (F0 C.2.1.2.1 pc ls (.int i :: xrv G (.ref r) :: st.map (xrv G)))
  rw [xrv_hi a1]
  exact W.aald (v := va_rf (xro G (f i.toNatClampNeg))) (ty := .object E) hC.1 hC.2.1 g1 g2 rfl g3 (fun q => xin_of h2 h3 (q.imp id (fun q9 => Nat.le_trans g4.1 q9))) (g5 _ h3) rfl rfl hd kw)
theorem x_alen {r : Nat} {x : Int32} (hv : aN h r = some x) (hd : decode M.1 pc = .ok (.arraylength, 1)) (kk : X G C M (pc + 1) lv (.int x :: st) h) : X G C M pc lv (.ref r :: st) h := X.stepR kk (fun hC ls H locs cells slots hl hR kw => by
  unfold aN at hv
  split at hv
  · rename_i t n a h1
    split at hv
    · rename_i ht
      cases hv
      obtain ⟨a1, cell, g1, g2, g3, g4, g5⟩ := x_arr hC.2.2.2.2.2.2.2.2.1 hR ht h1
      show xW C H locs cells slots (F0 C.2.1.2.1 pc ls (xrv G (.ref r) :: st.map (xrv G)))
      rw [xrv_hi a1]
      exact W.alen (n := Int32.ofNat n) hC.1 hC.2.1 g1 g2 g4.2 rfl rfl hd kw
    · cases hv
  · cases hv)
end XP
