/-! the Fault: its maker calls Exception's, which passes on to Throwable's (no traces are kept) -/
theorem thr_at {args : Array Value} {s : State} {A : Nat → Prop} (hts : ∀ w ∈ lw_all, w.before args s = true) (hU : vx_Zq Bundle.tN "UNASSIGNED_STACK" Bundle.steD A s s.heap) (hN : vx_Zq Bundle.tN "SUPPRESSED_SENTINEL" Bundle.listD A s s.heap) : ∀ w ∈ Bundle.throwableAtoms, w.before args s = true := by
  intro w hw
  simp only [Bundle.throwableAtoms, List.mem_cons, List.not_mem_nil, or_false] at hw
  rcases hw with rfl | rfl | rfl | rfl | rfl | rfl | rfl | rfl | rfl | rfl | rfl | rfl | rfl | rfl | rfl | rfl | rfl | rfl | rfl | rfl | rfl | rfl | rfl | rfl
  · exact hts _ q130
  · exact hts _ q613
  · exact hts _ q622
  · exact hts _ q624
  · exact hts _ q627
  · exact hts _ q629
  · exact hts _ q614
  · exact hts _ q615
  · exact hts _ q146
  · exact hts _ q147
  · exact hts _ q616
  · exact hts _ q621
  · exact hts _ q625
  · exact hts _ q642
  · exact hts _ q603
  · exact hts _ q643
  · exact hts _ q605
  · exact hts _ q644
  · exact hts _ q607
  · exact hts _ q617
  · exact hU.2.word
  · exact hts _ q619
  · exact hN.2.word
  · exact hts _ q609
theorem exc_at {args : Array Value} {s : State} (hts : ∀ w ∈ lw_all, w.before args s = true) (hNW : NW s) : ∀ w ∈ Bundle.chain0Atoms "java/lang/Exception" [], w.before args s = true := by
  intro w hw
  simp only [Bundle.chain0Atoms, Bundle.passAtoms, List.mem_cons, List.not_mem_nil, or_false] at hw
  rcases hw with rfl | rfl | rfl | rfl | rfl
  · exact hts _ q634
  · exact hts _ q635
  · exact hts _ q636
  · exact hts _ q614
  · exact va_Nw.use rfl (hNW.2.2.1 _ q598)
set_option maxHeartbeats 4000000 in
theorem y_exc0 {p : Program} {l : Launch} {e : Env} {R : Room} {s : State} {m : MethodId} {args : Array Value} {below : List Frame} {meth : Method} {c : Code} {Q : State → Prop} {cc : ByteArray} {nL : Nat} {ret : Option FieldType} {pc : Nat} {ls : Array Slot} {rest : List Value} {D : va_G} {A : Nat → Prop} {h : IX} {d : Nat → ClassId} {adK adV : Nat → Nat} {e0 : Nat} (X : FX p m c meth s args "NotchSticks$Fault" cc nL ret) (K : XK D d A s) (hE : ES adK adV e0 A s) (htr0 : l.stackTraces = false) {ct : CT} (O : XH D A s.heap h ct s.heap []) {q : Nat} {fs : List Value} (he : ct 25 q 0 = some (.inr (14, fs))) (hq : h 25 q 0 = q) {cX : ClassId} {kX : Class} (hfX : s.vm.findClass "NotchSticks$Fault" = some cX) (hkX : s.vm.classes[cX]? = some kX) (hfresh : s.heap[q]? = some (freshCell cX kX)) (hsize : ls.size = nL) (hRf : 4 ≤ R.frames) (hRl : (rest.map fun v => v.category).sum + 60 ≤ R.locals) (hdg : decode cc pc = .ok (.invokespecial 1, 3))
    (kk : ∀ (fs' : List Value) (H1 : Heap) (locs1 : List Loc), fs'.length = 8 → XH D A s.heap h (up3 ct 25 q 0 (.inr (14, fs'))) H1 locs1 → W p l e R s m args below meth c H1 locs1 0 0 Q (F0 m (pc + 3) ls rest)) : W p l e R s m args below meth c s.heap [] 0 0 Q (F0 m pc ls (.ref q :: rest)) := by
  intro T hT X0
  have htr : e.platform.stackTraces = false := (show e.platform.stackTraces = l.stackTraces by rw [X0.admits.platform]).trans htr0
  have howns : e.platform.frameOwnsMonitors = true := by rw [X0.admits.platform]
  have hfin : e.platform.finalization = false := by rw [X0.admits.platform]
  have hpl : e.platform.magicAccessors = ({} : Platform).magicAccessors := by rw [X0.admits.platform]
  have hexec := X.1.1
  have hb := X.1.2.1
  have hml := X.1.2.2.1
  have hown := X.1.2.2.2.1
  have hts := X.1.2.2.2.2
  have hU := hE.2.2.2.2.1
  have hN := hE.2.2.2.2.2.1
  have hAt := thr_at hts hU hN
  have hCh := exc_at hts K.2.1
  obtain ⟨T1, Z, L, LZ, Y⟩ := ThrowableC.of_atoms (args := args) howns hfin hpl hAt
  obtain ⟨P1, Ps, hlen, L1, hL, hP1m, hlink1, hlink⟩ := Bundle.chain0 (args := args) hpl Y.init0 [] "java/lang/Exception" (by decide +kernel) (fun n hn => nomatch hn) hCh
  obtain ⟨c1, kX', hc1, hk, hord, -, -, hn6⟩ := Cond.instantiable_spec (hts _ q594)
  cases Option.some.inj (hc1.symm.trans hfX)
  cases Option.some.inj (hkX.symm.trans hk)
  have hsel0 : selectMethod e.platform s.vm cX T1.fill0 = .method T1.fill0 := by
    obtain ⟨c2, r2, m2, q1, q2, q3, q4, -⟩ := Cond.selects_spec (hts _ q600)
    cases Option.some.inj (q1.symm.trans hfX)
    cases Option.some.inj (q2.symm.trans (State.methodFound?_of_named Y.fill0 (by decide)))
    cases Option.some.inj (q3.symm.trans Y.fill0)
    rw [Launch.admits_selectMethod X0.admits]; exact q4
  have hselF : selectMethod e.platform s.vm cX T1.fill = .method T1.fill := by
    obtain ⟨c2, r2, m2, q1, q2, q3, q4, -⟩ := Cond.selects_spec (hts _ q601)
    cases Option.some.inj (q1.symm.trans hfX)
    cases Option.some.inj (q2.symm.trans (State.methodFound?_of_named Y.fill (by decide)))
    cases Option.some.inj (q3.symm.trans Y.fill)
    rw [Launch.admits_selectMethod X0.admits]; exact q4
  obtain ⟨cellS0, hcS0, hiss⟩ := Y.statics
  obtain ⟨u0, hu0⟩ := Cond.staticRefV Y.unassigned L.unassignedStatic L.statics hcS0 hiss (vx_isRefq hU.1 : (Cond.isRef (.static Bundle.tN "UNASSIGNED_STACK" Bundle.steD)).before args s = true)
  obtain ⟨sen, hsen⟩ := Cond.staticRefV Y.sentinel L.sentinelStatic L.statics hcS0 hiss (vx_isRefq hN.1 : (Cond.isRef (.static Bundle.tN "SUPPRESSED_SENTINEL" Bundle.listD)).before args s = true)
  obtain ⟨ci198, i198, fB, hk198, hg198, ha198, hsB, -, hnB, htB, hffB⟩ := Cond.ownField (t := .object "java/lang/Object") Y.found L.cls (by decide +kernel) (hts _ q612) (hts _ q611) e.platform hpl
  have hcellS : T.heap[T1.aS]? = some cellS0 := by rw [hT]; exact hcS0
  have hcell : T.heap[q]? = some (freshCell cX kX) := by rw [hT]; exact hfresh
  have hneS : T1.aS ≠ q := by
    intro hz
    rw [hz, hfresh] at hcS0
    cases hcS0
    cases hiss
  have hknownS : cellS0.vm ≠ .unknown := by
    intro hu
    rw [show cellS0.vm = .unknown from hu] at hiss
    cases hiss
  obtain ⟨iM, hffM⟩ := Y.msg
  obtain ⟨tyC, dC, hdC, hdnC⟩ := Cond.laysAt hfX hk Y.cause (hts _ q602)
  obtain ⟨tyS, dS, hdS, hdnS⟩ := Cond.laysAt hfX hk Y.stack (hts _ q604)
  obtain ⟨tyP, dP, hdP, hdnP⟩ := Cond.laysAt hfX hk Y.supp (hts _ q606)
  obtain ⟨tyB, dB, hdB, hdnB⟩ := Cond.laysAt hfX hk hffB (hts _ q610)
  have bC := Cond.laysApart hdB hdC hdnB hdnC (by rw [hnB, Y.causeName]; decide)
  have bS := Cond.laysApart hdB hdS hdnB hdnS (by rw [hnB, Y.stackName]; decide)
  have bP := Cond.laysApart hdB hdP hdnB hdnP (by rw [hnB, Y.suppName]; decide)
  have hskip : SkipFacts T1 e.platform s (fun u => u) u0 ((preparedCellV T1.toThrowableT (freshCell cX kX) q u0 sen).withEntry T.cur) :=
    ⟨{ ci198 := ci198, i198 := i198, fBack := fB }, ⟨hk198, hg198, ha198, hsB⟩, by
      have := fresh_default (c := cX) tyB
      rw [htB] at this
      simpa [preparedCellV, Cell.setSlot, Cell.withEntry, Array.getElem?_setIfInBounds, bC, bS, bP, bC.symm, bS.symm, bP.symm, defaultValue] using this, fun _ _ => rfl⟩
  obtain ⟨tm, methC, cdC, kC, vm₁, hnC, -, -, -, -, -, -, -, hW₁, st1⟩ := Steps.initCold (tb := p.tables) (e := e) (below := below) (s := s) (U := T) X0.here hexec X0.warmed hpl hown (t := Bundle.init0 "java/lang/Exception") rfl rfl (Bundle.fit_spec (by decide +kernel)).2
    (hts _ q633) (hts _ q634) (bytes := Bundle.five) (maxL := 1) (hts _ q635)
    (f := F0 m pc ls (.ref q :: rest)) rfl (a := q) (rest := rest) rfl (by rw [hb]; exact hdg)
  cases Option.some.inj (hnC.symm.trans hP1m)
  have X₁ := X0.noted hW₁
  obtain ⟨vm₂, X₂, st2⟩ := X₁.ctorPlainOffV hexec (g := F0 m pc ls rest) rfl (hsize.trans hml.symm) T1 L Z LZ (P1 :: Ps)
    (fun P hP => by rcases List.mem_cons.mp hP with rfl | hP; exact L1; exact hL P hP) ⟨hlink1, hlink⟩ (u0 := u0) (sen := sen) (self := q) (cell := freshCell cX kX) (cellS := cellS0)
    hcell (fun _ => by simp) (by simp) rfl rfl hsel0 hselF hcellS hneS hknownS hu0 hsen
    (Takes.of_laid hk hord tyC (by rw [Y.causeType]; rfl)) (Takes.of_laid hk hord tyS (by rw [Y.stackType]; exact fits_refV_array _ u0)) (Takes.of_laid hk hord tyP (by rw [Y.suppType]; exact fits_refV_object _ sen)) Y.objLocals hskip htr [] (by rw [hb]; exact hdg)
    (by simp only [List.length_cons, hlen, List.length_nil]; omega) (by simp only [List.length_cons, hlen, List.length_nil]; show 2 * 0 + _ + _ ≤ _; omega)
  have hlt : q < ((T.setVm vm₁).setVm vm₂).heap.size := (Array.getElem?_eq_some_iff.mp hcell).1
  generalize hce : (preparedCellV T1.toThrowableT (freshCell cX kX) q u0 sen).setSlot T1.fStack.slot u0.v = ce at X₂ st2
  have hcls9 : ce.cls = cX := by rw [← hce]; rfl
  have hvm9 : ce.vm = .none := by rw [← hce]; rfl
  have hsz9 : ce.slots.size = (freshCell cX kX).slots.size := by rw [← hce]; simp [preparedCellV, Cell.setSlot]
  obtain ⟨ws, ix, hP, hD, hS, r⟩ := O
  have hq9 := r.1 25 q 0 _ he
  rw [hq] at hq9
  obtain ⟨r0, hr0, cell0, g1, g2, g3, g4⟩ := hP _ _ hq9
  have e9 : cell0 = freshCell cX kX := Option.some.inj (g1.symm.trans hfresh)
  have hr1 : r0 = (RX8, TX8, 8) := (Option.some.inj hr0).symm
  subst hr1
  have hz0 : (((T.setVm vm₁).setVm vm₂).setCell q ce).heap = s.heap.setIfInBounds q ce := by rw [← hT]; rfl
  have hself : (s.heap.setIfInBounds q ce)[q]? = some ce := by
    have : q < s.heap.size := (Array.getElem?_eq_some_iff.mp hfresh).1
    simp [Array.getElem?_setIfInBounds, this]
  have hoth : ∀ x : Nat, x ≠ q → (s.heap.setIfInBounds q ce)[x]? = s.heap[x]? := fun x hx => by simp [Array.getElem?_setIfInBounds, Ne.symm hx]
  have hAq : A q := hD.2 _ _ hq9
  have hY : XH D A s.heap h (up3 ct 25 q 0 (.inr (14, (List.range 8).map (fun k => (ce.slots[D.2 14 k]?).getD .null)))) (s.heap.setIfInBounds q ce) ([⟨q, T1.fCause.slot⟩, ⟨q, T1.fStack.slot⟩, ⟨q, T1.fSupp.slot⟩, ⟨q, T1.fStack.slot⟩]) := by
    refine ⟨ws.set (ix 25 q 0) (q, .inr (14, (List.range 8).map (fun k => (ce.slots[D.2 14 k]?).getD .null))), ix, hP.set hD hq9 ⟨_, rfl, ce, hself, ?_, hvm9, fun k hk => ?_⟩ hoth, hD.set hq9, ⟨by simp, fun x h1 h2 => hoth x (fun z => h2 (by rw [z]; exact hAq)), fun y hy => ?_⟩, ?_⟩
    · rw [hcls9, ← g2, e9]
    · have h8 : k < 8 := hk
      have hin : D.2 14 k < ce.slots.size := by
        rw [hsz9, ← e9]
        exact (Array.getElem?_eq_some_iff.mp (g4 k hk)).1
      rw [Array.getElem?_eq_getElem hin]
      simp [vp_V, h8, Array.getElem?_eq_getElem hin]
    · simp only [List.mem_cons, List.not_mem_nil, or_false] at hy
      rcases hy with rfl | rfl | rfl | rfl <;> exact hAq
    · have := r.set he (.inr (14, (List.range 8).map (fun k => (ce.slots[D.2 14 k]?).getD .null)))
      rw [hq] at this
      exact this
  obtain ⟨t, a1, b1⟩ := kk _ _ _ (by simp) hY _ hz0 X₂
  refine ⟨t, st1 _ (fun acts => ?_), b1⟩
  rw [doInvoke_state]
  exact st2 _ a1
