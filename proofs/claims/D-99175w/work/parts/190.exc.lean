/-! FOUNDATION 10: methods that return or throw NoSuchElementException -/
abbrev exNames : List String := ["java/lang/RuntimeException", "java/lang/Exception"]
abbrev NSE : String := "java/util/NoSuchElementException"
theorem exAt_n : (vx_at0 "RockingHorse" 280 NSE exNames).all (fun w => lw_tbl.contains w) = true := by decide +kernel
theorem exAt_b : (vx_at0 "RockingHorse" 280 NSE exNames).all (fun w => goodWord w || (decide (w = Cond.castable NSE NSE) || (decide (w = Cond.declares ⟨"java/lang/RuntimeException", "<init>", "()V"⟩) || (decide (w = Cond.declares ⟨"java/lang/Exception", "<init>", "()V"⟩) || decide (w = Cond.declares ⟨"java/lang/Throwable", "<init>", "()V"⟩))))) = true := by decide +kernel
theorem exAt_g : (Cond.classLink "RockingHorse" 278 NSE :: Cond.initialized NSE :: vx_at0 "RockingHorse" 280 NSE exNames).all vx_ot = true := by decide +kernel
theorem exAt {X : Mx} {M : Mi} (hX : OkX X M) : ∀ w ∈ vx_at0 "RockingHorse" 280 NSE exNames, w.before (xa X) (xs X) = true := by
  intro w hw
  have h1 := List.all_eq_true.mp exAt_n w hw
  have h2 := List.all_eq_true.mp exAt_b w hw
  simp only [Bool.or_eq_true, decide_eq_true_eq] at h2
  rcases h2 with h2 | h2 | h2 | h2 | h2
  · exact hX.ts w (List.mem_filter.mpr ⟨List.contains_iff_mem.mp h1, h2⟩)
  · rw [h2]
    exact va_Nw.use rfl hX.ext.2.2.2.2.2.2.2.2.1
  · rw [h2]
    exact va_Nw.use rfl (hX.ext.2.2.2.2.1 _ (List.mem_of_getElem? (i := 1) rfl))
  · rw [h2]
    exact va_Nw.use rfl (hX.ext.2.2.2.2.1 _ (List.mem_of_getElem? (i := 2) rfl))
  · rw [h2]
    exact va_Nw.use rfl (hX.ext.2.2.2.2.1 _ (List.mem_of_getElem? (i := 3) rfl))
section exc
variable {β : Type} {X : Mx} {M : Mi} {pc : Nat} {Q : β → Hp → State → Prop} {env : List (Nat × LV)} {st : List LV} {σ : Hp} {o : Option (β × Hp)}
/-- the end of a method that may throw: none says that it threw -/
def QX {β : Type} (X : Mx) (cr : β → Option LV) (r : Option β) (σf : Hp) : State → Prop :=
  vx_MQ (xb X) (fun _ st oc t => ∃ v, r = some v ∧ oc = .returned (cvo (xY X) (cr v)) ∧ WS (xY X) σf t ∧ va_F (xA X) st t) (fun E st t => r = none ∧ E = NSE ∧ WS (xY X) σf t ∧ va_F (xA X) st t) (xa X) (xs X) (hn σf - hn (x0 X)) (hu σf - hu (x0 X)) (xA X)
theorem g_iretX (hr : M.2.2.2.2.1 = some .int) {v : Int32} (hd : decode M.1 pc = .ok (.ireturn, 1)) : GG X M (QX X rI) pc env [vI v] σ (some (some v, σ)) := by
  intro r σf ho
  cases ho
  exact ⟨Le.rfl', fun hX ls H locs h0 h1 h2 hl hW hS => vx_ret (W.iret hX.ex hX.co (hX.rt.trans hr) (fun t ht hw => ⟨v, rfl, rfl, WS_at hX hW hS ht hw, hS.F ht⟩) hS.2.2 hd hX.lk)⟩
theorem g_lretX (hr : M.2.2.2.2.1 = some .long) {v : Int64} (hd : decode M.1 pc = .ok (.lreturn, 1)) : GG X M (QX X rL) pc env [vL v] σ (some (some v, σ)) := by
  intro r σf ho
  cases ho
  exact ⟨Le.rfl', fun hX ls H locs h0 h1 h2 hl hW hS => vx_ret (W.lret hX.ex hX.co (hX.rt.trans hr) (fun t ht hw => ⟨v, rfl, rfl, WS_at hX hW hS ht hw, hS.F ht⟩) hS.2.2 hd hX.lk)⟩
/-- 'throw new NoSuchElementException()': the thrown thing is the newest cell -/
theorem g_throwX {cr : β → Option LV} (hown : M.2.2.1 = "RockingHorse") (hf : 6 ≤ M.2.2.2.1) (hem : ∀ x ∈ (xc X).exceptionTable.toList, False) (d0 : decode M.1 pc = .ok (.new 278, 3)) (d3 : decode M.1 (pc + 3) = .ok (.dup, 1)) (d4 : decode M.1 (pc + 4) = .ok (.invokespecial 280, 3)) (d7 : decode M.1 (pc + 7) = .ok (.athrow, 1)) : GG X M (QX X cr) pc env [] σ (some (none, nw σ 7 6)) := by
  intro r σf ho
  cases ho
  refine ⟨nw_Le, fun hX ls H locs h0 h1 h2 hl hW hS => ?_⟩
  obtain ⟨r1, r2, r3, r4⟩ := new_room (X := X) Le.rfl' h0 h1 h2
  have hlst : (xl X).stackTraces = false := by
    have := hX.fl
    unfold Launch.stackTraces
    rw [this]
    rfl
  have e1 := hX.frm
  have e2 := hX.lo
  have ho := hX.ow
  rw [hown] at ho
  intro T hT XX
  have htr : (xe X).platform.stackTraces = false := (show (xe X).platform.stackTraces = (xl X).stackTraces by rw [XX.admits.platform]).trans hlst
  have Y := vx_rebase XX (R' := { frames := (xR X).frames, locals := (xR X).locals, cells := 1, slots := 6 }) (Nat.le_refl _) (Nat.le_refl _) r1 r2
  obtain ⟨s', hA⟩ : ∃ z, z = (T.setVm (xs X).vm).setFrames (.invoking (xm X) (xa X) :: (xb X)) := ⟨_, rfl⟩
  rw [← hA] at Y
  have hvm : s'.vm = (xs X).vm := by rw [hA]; rfl
  have hhp : s'.heap = H := by rw [hA]; exact hT
  have hW0 : (xs X).WarmedH s'.vm := by rw [hvm]; exact State.WarmedH.refl _
  have hgood := List.all_eq_true.mp exAt_g
  have hat' : ∀ w ∈ vx_at0 "RockingHorse" 280 NSE exNames, w.before (xa X) s' = true := fun w hw => vx_ot_at hW0 hvm.symm (hgood w (List.mem_cons_of_mem _ (List.mem_cons_of_mem _ hw))) (exAt hX w hw)
  have hk' : (Cond.classLink "RockingHorse" 278 NSE).before (xa X) s' = true := vx_ot_at hW0 hvm.symm (hgood _ List.mem_cons_self) (hX.ts _ q977)
  have hini' : (Cond.initialized NSE).before (xa X) s' = true := vx_ot_at hW0 hvm.symm (hgood _ (List.mem_cons_of_mem _ List.mem_cons_self)) (hX.ts _ q124)
  have hU' : vx_Zq Bundle.tN "UNASSIGNED_STACK" Bundle.steD (xA X) s' s'.heap := by rw [hhp]; exact vx_Zq.moved hW0.alike (hX.ext.2.2.2.2.2.2.2.2.2.1.kept hS.2.1)
  have hN' : vx_Zq Bundle.tN "SUPPRESSED_SENTINEL" Bundle.listD (xA X) s' s'.heap := by rw [hhp]; exact vx_Zq.moved hW0.alike (hX.ext.2.2.2.2.2.2.2.2.2.2.kept hS.2.1)
  have h : ∀ w ∈ Bundle.ownAtoms0 "RockingHorse" 280 NSE exNames, w.before (xa X) s' = true := vx_own hat' (vx_isRefq hU'.1) (vx_isRefq hN'.1) hU'.2.word hN'.2.word
  have hown' : s'.vm.findClass "RockingHorse" = some (xm X).cls := by rw [hvm]; exact ho
  have hins : (Cond.instantiable NSE 6).before (xa X) s' = true := h _ (by simp [Bundle.ownAtoms0])
  obtain ⟨vm₁, cX, kX, hfX, hkX, -, -, X₁, st1⟩ := Y.newCold hX.ex (own := "RockingHorse") (C := NSE) (index := 278) (n := 6) hown' hk' hins hini'
    (g := F0 (xm X) pc ls []) rfl (by rw [hX.co]; exact d0) (Nat.le_refl _) (Nat.le_refl _)
  generalize hT1 : (T.setVm vm₁).pushCell { cls := cX, slots := kX.instanceTypes.map defaultValue, vm := .none } = T1 at X₁ st1
  have hcat : (Value.ref T.heap.size).category = 1 := rfl
  have hcellA : T1.heap[T.heap.size]? = some (freshCell cX kX) := by rw [← hT1]; exact State.heap_pushCell_size _ _
  have d3' : decode (xc X).code (pc + 3) = .ok (.dup, 1) := by rw [hX.co]; exact d3
  have hsz : ls.size = (xc X).maxLocals := hl.1.trans hX.ml.symm
  obtain ⟨U, hsteps, hrun, hend, hWm, hsame, ce, hce, hO⟩ := X₁.ctorThrow0 hX.ex htr (own := "RockingHorse") (cls := NSE) (names := exNames) (ic := 280) hown' (by decide +kernel) (by decide +kernel) h (fun x hx => nomatch hx) hfX hkX hcellA (by rw [hhp, hT]; exact Nat.le_refl _)
    (g := { method := xm X, pc := pc + 4, locals := ls, stack := .ref T.heap.size :: .ref T.heap.size :: [], locked := none }) rfl hsz rfl rfl (rest := []) rfl
    (by rw [hX.co]; exact d4) (by rw [hX.co]; exact d7) (fun x hx => (hem x hx).elim) (by show 2 + 3 < (xR X).frames; omega) (by simp only [List.map_cons, List.sum_cons, hcat, List.map_nil, List.sum_nil, List.length_cons, List.length_nil]; omega) hX.lk
  obtain ⟨f1, f2⟩ := vx_frame hsame
  have f3 : U.heap.size ≤ s'.heap.size + 1 := hsame.2.2.1
  rw [hhp] at f1 f2 f3
  have hWs : (xs X).WarmedH U.vm := State.WarmedH.trans hW0 hWm
  have hcl : (xs X).vm.findClass NSE = some ce.cls := by
    have h9 := hO.cls
    rw [hvm] at h9
    exact h9
  have hall : (xs X).sameButNew ({ U with vm := (xs X).vm } : State) locs (hn (nw σ 7 6) - hn (x0 X)) (hu (nw σ 7 6) - hu (x0 X)) := by
    subst hA
    obtain ⟨e1, e2⟩ := hsame
    rw [State.setFrames_setFrames] at e1
    have h2 : (T.setVm (xs X).vm).sameButNew ({ U with vm := (xs X).vm } : State) [] (0 + 1) (0 + 6) := ⟨e1, e2⟩
    have h3 := XX.same.trans h2
    rw [List.append_nil] at h3
    exact h3.mono (by rw [r3]; omega) (by rw [r4]; omega)
  rw [hT] at hce
  have hUs : U.heap.size = H.size + 1 := by
    have := (Array.getElem?_eq_some_iff.mp hce).1
    omega
  have old : ∀ q : Nat, q < H.size → U.heap[q]? = H[q]? := fun q hq => f2 q hq (fun z hz => nomatch hz)
  have hWd : Wd (xY X) (nw σ 7 6) U.heap := by
    refine hW.new hUs old ⟨.null, ?_⟩
    rw [cellE_o (by rw [nw_new]) (by decide), ← hW.1]
    have hKn := (hX.K.1 7 _ (show clsL[7]? = some _ from rfl)).2
    have hcc : ce.cls = (xY X).2.1.1 7 := Option.some.inj (hcl.symm.trans hKn.1)
    exact ⟨_, rfl, ⟨ce, hce, hcc, hO.vm, fun k hk => absurd hk (Nat.not_lt_zero _)⟩⟩
  have hS2 : va_S (xA X) (xs X).heap U.heap locs := hS_new hS hUs old
  refine ⟨U, ?_, .threw T.heap.size, hrun, hend, Or.inr ⟨T.heap.size, rfl, NSE, ce, locs, ⟨rfl, rfl, WS_at hX hWd hS2 rfl hWs, hS2.F rfl⟩, by rw [hT]; exact hce, hO.vm, hcl, hWs, hall, hS.2.2⟩⟩
  refine st1 _ ?_
  show Steps (xp X).tables (xe X) (xb X) (T1.setTop { method := xm X, pc := pc + 3, locals := ls, stack := .ref T.heap.size :: [], locked := none }) _
  have hx := hX.ex
  jvm_step X₁.here [X₁.here.top, hx, d3', Value.category]
  exact hsteps
end exc
