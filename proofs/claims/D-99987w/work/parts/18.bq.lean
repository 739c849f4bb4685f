/-! the law's own end (SKELETON.whole, behind PART A) -/
def R_law : String := "StrangerMarketLaw"
abbrev yL_law : MethodName := x
def lw_P (b : Addr) (xs : List Int32) (args : Array Value) (s : State) : Prop := args = #[.ref b] ∧ s.IntsAt b xs ∧ xs.length ≤ 384 ∧ (Jvm.Cond.and given_1 narrow_1).before args s = true
def lw_Q (_ : Array Value) (s : State) (o : Outcome) (t : State) : Prop := o = .returned (some (.int 1)) ∧ Framed s o t [] 601024 7293034
def lw_Z (below : List Frame) (a : Array Value) (s : State) : State → Prop := fun t => ∃ o, t.status = .running ∧ Ended t below o ∧ lw_Q a s o t
theorem lw_ret {p : Program} {l : Launch} {e : Env} {s : State} {m : MethodId} {below : List Frame} {meth : Method} {c : Code} {b : Nat} (hx : p.tables.exec = Jvm.exec) (hb : c.code = code) (hr : meth.sig.returnType = ret) (hlocks : meth.locks = false) {pc : Nat} {H : Heap} {ls : Array Slot} (hdg : decode code pc = .ok (.ireturn, 1)) : W p l e room_1 s m #[Value.ref b] below meth c H [] 601024 7293034 (lw_Z below #[Value.ref b] s) (F0 m pc ls [.int 1]) := by
  intro T hT X
  obtain ⟨fs, hret, hrun, hended, hW, hframe⟩ := X.leave (v := some (.int 1)) (hlocks := hlocks) (fun h => by rw [hr] at h; cases h)
  have hmeth' : T.vm.method? m = some meth := X.method'
  refine ⟨T.setFrames fs, ?_, .returned (some (.int 1)), hrun, hended, rfl, ⟨_, rfl⟩, hW, hframe⟩
  jvm_step X.here [X.here.top, hx, hb, hdg, hmeth', hr, ret, narrow_b1]
  (try refine ⟨rfl, ?_⟩); (try refine ⟨rfl, ?_⟩)
  first | (intro acts; rw [hret _ acts rfl rfl rfl]) | rw [hret _ _ rfl rfl rfl]
  exact Steps.refl _
section XLaw
variable {G : xG} {C : xC} {M : xM} {pc : Nat} {lv : List (Nat × Value)} {h : mH}
/-- how the law's walk ends: it answers 1, within the claim's room -/
def xEndL (G : xG) (C : xC) (o : Int32 × mH) : Prop := (∃ b : Nat, C.2.1.2.2.1 = #[Value.ref b]) ∧ C.1.2.2.2 = room_1 ∧ C.2.2.1.2.2 = lw_Z C.2.1.2.2.2 C.2.1.2.2.1 C.2.1.1 ∧ C.2.2.2.2.1 = o.2.2.1 ∧ C.2.2.2.2.2 = o.2.2.2 ∧ o.1 = 1 ∧ o.2.2.1 - C.2.2.2.1.1 ≤ 601024 ∧ o.2.2.2 - C.2.2.2.1.2 ≤ 7293034 ∧ C.2.1.1.heap.size = G.1
theorem x_iretL {v : Int32} (hE : xEndL G C (v, h)) (hr : M.2.2.2.1 = some .boolean) (hc : M.1 = code) (hd : decode M.1 pc = .ok (.ireturn, 1)) : X G C M pc lv [.int v] h := by
  obtain ⟨⟨b, e0⟩, e1, e2, e3, e4, e5, e6, e7, e8⟩ := hE
  have e5 : v = 1 := e5
  have e6 : h.2.1 - C.2.2.2.1.1 ≤ 601024 := e6
  have e7 : h.2.2 - C.2.2.2.1.2 ≤ 7293034 := e7
  subst e5
  refine ⟨⟨by rw [e3]; exact Nat.le_refl _, by rw [e4]; exact Nat.le_refl _⟩, fun hC b1 b2 ls H locs hl hR hq => ?_⟩
  rw [hc] at hd
  unfold xW
  rw [e2, e1, e0]
  refine va_forget (fun q hq9 => by rw [e8]; exact hq q hq9) ?_
  refine W.widen e6 e7 ?_
  exact lw_ret hC.1 (hC.2.1.trans hc) (hC.2.2.2.2.2.1.trans hr) hC.2.2.2.2.2.2.1 hd
end XLaw
