/-! FOUNDATION 6: returns, contracts, calls -/
def rI (r : Int32) : Option LV := some (vI r)
def rL (r : Int64) : Option LV := some (vL r)
def rA (r : Option Nat) : Option LV := some (vA r)
def rS (r : Nat) : Option LV := some (vS r)
def rV (_ : Unit) : Option LV := none
def cvo (Y : Yx) (v : Option LV) : Option Value := match v with
  | none => none
  | some v => some (cv Y v)
/-- a method's end -/
def QM {β : Type} (X : Mx) (cr : β → Option LV) (r : β) (σf : Hp) : State → Prop := MQ (xb X) (fun _ st oc t => oc = .returned (cvo (xY X) (cr r)) ∧ WS (xY X) σf t ∧ va_F (xA X) st t) (xa X) (xs X) (hn σf - hn (x0 X)) (hu σf - hu (x0 X)) (xA X)
/-- a method's contract: if the computation o ends, the method does the same -/
def MM {β : Type} (y : MethodName) (M : Mi) (cr : β → Option LV) (as : List LV) (σ : Hp) (o : Option (β × Hp)) : Prop :=
  ∀ (r : β) (σf : Hp), o = some (r, σf) → Le σ σf ∧ ∀ (l : Launch) (Y : Yx), l.flags = flags0 → Met l y (ws_ y M.1 M.2.1 M.2.2.2.2.1) { frames := M.2.2.2.1, cells := hn σf - hn σ, slots := hu σf - hu σ, locals := 64 * M.2.2.2.1 } (va_Pc (as.map (cv Y)) (WS Y σ)) (fun _ st oc t => oc = .returned (cvo Y (cr r)) ∧ WS Y σf t ∧ va_F (fun q => Y.1 ≤ q) st t) (hn σf - hn σ) (hu σf - hu σ) (fun q => Y.1 ≤ q)
def mx0 : Mx := (Program.bare "" "" "", launch0, { classPath := fun _ => none }, {}, {}, default, #[], [], default, ⟨0, 0, ⟨#[]⟩, #[], #[]⟩, (0, (fun _ => 0, fun _ _ => 0), fun _ => 0, fun _ => 0), (0, 0, fun _ => (0, 0), fun _ _ => 0, fun _ _ => 0, fun _ _ => none))
/-- a contract out of a walk -/
theorem mm_of {β : Type} {y : MethodName} {M : Mi} {cr : β → Option LV} {as : List LV} {σ : Hp} {o : Option (β × Hp)} (hy : plainName y.cls = true) (hc : y.cls = M.2.2.1) (hn' : y.name = M.2.2.2.2.2) (hL : (as.map lvw).sum ≤ M.2.1)
    (G : ∀ X : Mx, GG X M (QM X cr) 0 (lvE 0 as) [] σ o) : MM y M cr as σ o := by
  intro r σf ho
  have hle := (G mx0 r σf ho).1
  refine ⟨hle, fun l Y hfl => ?_⟩
  have lsl : (lg_sl (as.map (cv Y))).length = (as.map lvw).sum := by
    clear G ho hL
    induction as with
    | nil => rfl
    | cons v vs ih =>
      simp only [lg_sl, List.map_cons, List.flatMap_cons, List.length_append, List.sum_cons] at ih ⊢
      rw [ih, cv_cat]
      rcases v with x | x | x | x <;> rfl
  refine Met.ofW (cc := M.1) (maxL := M.2.1) (ret := M.2.2.2.2.1) hy rfl ?_
  intro p e s m args below meth c s₁ B hml hv
  obtain ⟨rfl, hW, hE⟩ := hv
  have hts := atoms_spec (ws := ws_ y M.1 M.2.1 M.2.2.2.2.1) B.pre
  have hX : OkX (p, l, e, { frames := M.2.2.2.1, cells := hn σf - hn σ, slots := hu σf - hu σ, locals := 64 * M.2.2.2.1 }, s, m, (as.map (cv Y)).toArray, below, meth, c, Y, σ) M :=
    ⟨B.exec, B.bytes, hml, by rw [← hc]; exact findClass_of_methodNamed B.named, fun w h => hts w (List.mem_cons_of_mem _ h), hE, hW.1, Nat.le_refl _, Nat.le_refl _, B.notSynchronized, B.returns, by rw [← hn']; exact (name_of_methodNamed B.named B.method).1, hfl⟩
  obtain ⟨-, g⟩ := G _ r σf ho
  rw [lg_entry_eq]
  have hent := lv_entry (as.map (cv Y)) (n := M.2.1) (by rw [lsl]; exact hL)
  rw [lvE_map] at hent
  have g := g hX _ s.heap [] Le.rfl' (by show _ ≤ hn σ + (hn σf - hn σ); have := hle.1; omega) (by show _ ≤ hu σ + (hu σf - hu σ); have := hle.2; omega) hent hW va_S.rf
  have e1 : hn σ - hn σ = 0 := Nat.sub_self _
  have e2 : hu σ - hu σ = 0 := Nat.sub_self _
  dsimp only [xp, xl, xe, xR, xs, xm, xa, xb, xt, xc, xY, x0] at g
  rw [e1, e2] at g
  exact g
section calls
variable {β : Type} {X : Mx} {M : Mi} {pc : Nat} {Q : β → Hp → State → Prop} {env : List (Nat × LV)} {st : List LV} {σ : Hp} {o : Option (β × Hp)}
theorem WS_at {locs : List Loc} {H : Heap} {t : State} (hX : OkX X M) (hW : Wd (xY X) σ H) (hS : va_S (xA X) (xs X).heap H locs) (ht : t.heap = H) (hw : (xs X).WarmedH t.vm) : WS (xY X) σ t := ⟨by rw [ht]; exact hW, hX.ext.moved hS ht hw⟩
theorem g_vret (hr : M.2.2.2.2.1 = none) (hd : decode M.1 pc = .ok (.return_, 1)) : GG X M (QM X rV) pc env [] σ (some ((), σ)) := by
  intro r σf ho
  cases ho
  exact ⟨Le.rfl', fun hX ls H locs h0 h1 h2 hl hW hS => W.vret hX.ex hX.co (hX.rt.trans hr) (fun t ht hw => ⟨rfl, WS_at hX hW hS ht hw, hS.F ht⟩) hS.2.2 hd hX.lk⟩
theorem g_iret (hr : M.2.2.2.2.1 = some .int) {v : Int32} (hd : decode M.1 pc = .ok (.ireturn, 1)) : GG X M (QM X rI) pc env [vI v] σ (some (v, σ)) := by
  intro r σf ho
  cases ho
  exact ⟨Le.rfl', fun hX ls H locs h0 h1 h2 hl hW hS => W.iret hX.ex hX.co (hX.rt.trans hr) (fun t ht hw => ⟨rfl, WS_at hX hW hS ht hw, hS.F ht⟩) hS.2.2 hd hX.lk⟩
/-- a truth value is 0 or 1 -/
def rz1 (v : Int32) (σ : Hp) : Option (Int32 × Hp) := if v = 0 ∨ v = 1 then some (v, σ) else none
theorem g_zret (hr : M.2.2.2.2.1 = some .boolean) {v : Int32} (hd : decode M.1 pc = .ok (.ireturn, 1)) : GG X M (QM X rI) pc env [vI v] σ (rz1 v σ) := by
  intro r σf ho
  unfold rz1 at ho
  by_cases hv : v = 0 ∨ v = 1
  · rw [if_pos hv] at ho
    cases ho
    exact ⟨Le.rfl', fun hX ls H locs h0 h1 h2 hl hW hS => W.zret hX.ex hX.co (hX.rt.trans hr) (by rcases hv with rfl | rfl <;> rfl) (fun t ht hw => ⟨rfl, WS_at hX hW hS ht hw, hS.F ht⟩) hS.2.2 hd hX.lk⟩
  · rw [if_neg hv] at ho; cases ho
theorem g_lret (hr : M.2.2.2.2.1 = some .long) {v : Int64} (hd : decode M.1 pc = .ok (.lreturn, 1)) : GG X M (QM X rL) pc env [vL v] σ (some (v, σ)) := by
  intro r σf ho
  cases ho
  exact ⟨Le.rfl', fun hX ls H locs h0 h1 h2 hl hW hS => W.lret hX.ex hX.co (hX.rt.trans hr) (fun t ht hw => ⟨rfl, WS_at hX hW hS ht hw, hS.F ht⟩) hS.2.2 hd hX.lk⟩
theorem g_aret {rt : FieldType} (hr : M.2.2.2.2.1 = some rt) (hrt : (∃ n, rt = .object n) ∨ ∃ t, rt = .array t) {v : Option Nat} (hd : decode M.1 pc = .ok (.areturn, 1)) : GG X M (QM X rA) pc env [vA v] σ (some (v, σ)) := by
  intro r σf ho
  cases ho
  exact ⟨Le.rfl', fun hX ls H locs h0 h1 h2 hl hW hS => W.aret hX.ex hX.co (hX.rt.trans hr) hrt (by cases v; exact Or.inl rfl; exact Or.inr ⟨_, rfl⟩) (fun t ht hw => ⟨rfl, WS_at hX hW hS ht hw, hS.F ht⟩) hS.2.2 hd hX.lk⟩
theorem g_sret {rt : FieldType} (hr : M.2.2.2.2.1 = some rt) (hrt : (∃ n, rt = .object n) ∨ ∃ t, rt = .array t) {v : Nat} (hd : decode M.1 pc = .ok (.areturn, 1)) : GG X M (QM X rS) pc env [vS v] σ (some (v, σ)) := by
  intro r σf ho
  cases ho
  exact ⟨Le.rfl', fun hX ls H locs h0 h1 h2 hl hW hS => W.aret hX.ex hX.co (hX.rt.trans hr) hrt (Or.inr ⟨_, rfl⟩) (fun t ht hw => ⟨rfl, WS_at hX hW hS ht hw, hS.F ht⟩) hS.2.2 hd hX.lk⟩
/-- a call, and what comes behind it -/
def bnd {β γ : Type} (o : Option (β × Hp)) (K : β → Hp → Option (γ × Hp)) : Option (γ × Hp) := match o with
  | none => none
  | some x => K x.1 x.2
def stw (st : List LV) : Nat := (st.map lvw).sum
theorem stw_cat (Y : Yx) (st : List LV) : ((st.map (cv Y)).map fun v => v.category).sum = stw st := by
  unfold stw
  rw [List.map_map]
  congr 1
  apply List.map_congr_left
  intro v _
  exact cv_cat Y v
theorem blind (Y : Yx) (as : List LV) : FrameBlind (va_Pc (as.map (cv Y)) (WS Y σ)) := fun a U g mk h => ⟨h.1, h.2.1, h.2.2.same rfl rfl⟩
/-- behind a call's run -/
theorem run_go {γ : Type} {H : Heap} {ls : Array Slot} {locs : List Loc} {σ1 σf : Hp} {rest st0 : List LV} {a : Array Value} {cr : γ → Option LV} {r1 : γ} {r : β} {o1 : Option (β × Hp)} (hX : OkX X M) (hle1 : Le σ σ1) (h0 : Le (x0 X) σ)
    (hr : va_Run (xp X) (xl X) (xe X) (xR X) (xs X) (xm X) (xa X) (xb X) (xt X) (xc X) H locs (hn σ - hn (x0 X)) (hu σ - hu (x0 X)) (hn σ1 - hn σ) (hu σ1 - hu σ) (F0 (xm X) pc ls (st0.map (cv (xY X)))) (rest.map (cv (xY X))) (fun st oc t => oc = .returned (cvo (xY X) (cr r1)) ∧ WS (xY X) σ1 t ∧ va_F (xA X) st t) (xA X))
    (hS : va_S (xA X) (xs X).heap H locs) (h1 : hn σf ≤ hn (x0 X) + (xR X).cells) (h2 : hu σf ≤ hu (x0 X) + (xR X).slots) (hl : lv_has ls M.2.1 (env.map (cve (xY X)))) (ho : o1 = some (r, σf))
    (k : GG X M Q (pc + 3) env ((cr r1).toList ++ rest) σ1 o1) : W (xp X) (xl X) (xe X) (xR X) (xs X) (xm X) (xa X) (xb X) (xt X) (xc X) H locs (hn σ - hn (x0 X)) (hu σ - hu (x0 X)) (Q r σf) (F0 (xm X) pc ls (st0.map (cv (xY X)))) := by
  intro T hT XX
  obtain ⟨v, st₀, t, T', L, e0, X', hL, e1, e2, ⟨hv, ⟨hWd, -⟩, hF⟩, go⟩ := hr T hT XX
  have hv : v = cvo (xY X) (cr r1) := Outcome.returned.inj hv
  obtain ⟨-, g⟩ := k r σf ho
  have hS' : va_S (xA X) (xs X).heap t.heap (locs ++ L) := by
    obtain ⟨f1, f2⟩ := hF
    rw [e0] at f1 f2
    refine ⟨Nat.le_trans hS.1 f1, fun q g1 g2 => (f2 q (Nat.lt_of_lt_of_le g1 hS.1) g2).trans (hS.2.1 q g1 g2), fun q hq => ?_⟩
    rcases List.mem_append.mp hq with h | h
    · exact hS.2.2 q h
    · exact hL q h
  have g := g hX ls t.heap (locs ++ L) (h0.tr hle1) h1 h2 hl hWd hS'
  have c1 : hn σ - hn (x0 X) + (hn σ1 - hn σ) = hn σ1 - hn (x0 X) := by have := h0.1; have := hle1.1; omega
  have c2 : hu σ - hu (x0 X) + (hu σ1 - hu σ) = hu σ1 - hu (x0 X) := by have := h0.2; have := hle1.2; omega
  rw [c1, c2] at X'
  obtain ⟨t2, a1, b1⟩ := g T' e1 X'
  refine ⟨t2, go t2 ?_, b1⟩
  have es : v.toList ++ rest.map (cv (xY X)) = ((cr r1).toList ++ rest).map (cv (xY X)) := by
    rw [hv, List.map_append]
    congr 1
    cases cr r1 <;> rfl
  rw [es]
  exact a1
theorem frames_ok {K : Mi} (hX : OkX X M) (hf : K.2.2.2.1 + 1 ≤ M.2.2.2.1) (hL : K.2.1 ≤ 45) : K.2.2.2.1 + 1 ≤ (xR X).frames ∧ 8 + (K.2.1 + 11) + 64 * K.2.2.2.1 ≤ (xR X).locals := by
  have h1 := hX.frm
  have h2 := hX.lo
  constructor <;> omega
theorem room_ok {σ1 σf : Hp} (h0 : Le (x0 X) σ) (hle1 : Le σ σ1) (hle2 : Le σ1 σf) (h1 : hn σf ≤ hn (x0 X) + (xR X).cells) (h2 : hu σf ≤ hu (x0 X) + (xR X).slots) : hn σ - hn (x0 X) + (hn σ1 - hn σ) ≤ (xR X).cells ∧ hu σ - hu (x0 X) + (hu σ1 - hu σ) ≤ (xR X).slots := by
  have := h0.1; have := h0.2; have := hle1.1; have := hle1.2; have := hle2.1; have := hle2.2
  constructor <;> omega
theorem bnd_inv {γ : Type} {o1 : Option (γ × Hp)} {K : γ → Hp → Option (β × Hp)} {r : β} {σf : Hp} (h : bnd o1 K = some (r, σf)) : ∃ r1 σ1, o1 = some (r1, σ1) ∧ K r1 σ1 = some (r, σf) := by
  cases o1 with
  | none => cases h
  | some x => exact ⟨x.1, x.2, rfl, h⟩
/-- a static call -/
theorem g_callS {γ : Type} {o1 : Option (γ × Hp)} {K : γ → Hp → Option (β × Hp)} {y : MethodName} {N : Mi} {cr : γ → Option LV} {as rest : List LV} {idx n : Nat} (hM : MM y N cr as σ o1) (hst : st = as.reverse ++ rest) (hq1 : Cond.methodLink M.2.2.1 idx y ∈ lw_all) (hq2 : Cond.static y ∈ lw_all) (hq3 : Cond.initialized y.cls ∈ lw_all) (hq4 : Cond.code y N.1 N.2.1 N.2.2.2.2.1 ∈ lw_all)
    (hd2 : y.cls ≠ "java/lang/invoke/MethodHandle" ∧ y.cls ≠ "java/lang/invoke/VarHandle" ∧ (parseMethodDescriptor y.desc).map (fun d => d.parameters.length) = some n) (hn' : as.length = n) (hf : N.2.2.2.1 + 1 ≤ M.2.2.2.1) (hL : N.2.1 ≤ 45) (h8 : stw rest ≤ 8) (hd : decode M.1 pc = .ok (.invokestatic idx, 3))
    (kk : ∀ r1 σ1, GG X M Q (pc + 3) env ((cr r1).toList ++ rest) σ1 (K r1 σ1)) : GG X M Q pc env st σ (bnd o1 K) := by
  intro r σf ho
  obtain ⟨r1, σ1, e1, ho⟩ := bnd_inv ho
  obtain ⟨hle1, hMet⟩ := hM r1 σ1 e1
  have hle2 := (kk r1 σ1 r σf ho).1
  refine ⟨hle1.tr hle2, fun hX ls H locs h0 h1 h2 hl hW hS => ?_⟩
  refine run_go (cr := cr) (r1 := r1) (rest := rest) (a := #[]) hX hle1 h0 ?_ hS h1 h2 hl ho (kk r1 σ1)
  exact va_runS (As := as.map (cv (xY X))) (rest := rest.map (cv (xY X))) ⟨hX.ex, hX.co, hX.ml, hX.ow, hX.ts⟩ (hMet (xl X) (xY X) hX.fl) (va_cwS n hX.ts (lw_S hq1 hq2 hq3 hq4) rfl rfl rfl hd2 (frames_ok hX hf hL))
    ⟨blind _ _, fun U hU hw => ⟨rfl, WS_at hX hW hS hU hw⟩⟩ rfl (by rw [List.length_map]; exact hn') (show ls.size = M.2.1 from hl.1) (by rw [hst, List.map_append, List.map_reverse]) (lv_room (by rw [stw_cat]; exact h8)) hd (room_ok h0 hle1 hle2 h1 h2)
/-- a call through an object -/
theorem g_callV {γ : Type} {o1 : Option (γ × Hp)} {K : γ → Hp → Option (β × Hp)} {y : MethodName} {N : Mi} {cr : γ → Option LV} {x : Option Nat} {as rest : List LV} {idx n ci : Nat} {C : String} {T : u_T} {ty : Nat → FieldType} (hM : MM y N cr (vA x :: as) σ o1) (hst : st = as.reverse ++ vA x :: rest) (hC : CO ci C T ty) (hq1 : Cond.methodLink M.2.2.1 idx y ∈ lw_all) (hq2 : Cond.instanceMethod y ∈ lw_all) (hq3 : Cond.selects C y y ∈ lw_all) (hq4 : Cond.initialized C ∈ lw_all) (hq5 : Cond.code y N.1 N.2.1 N.2.2.2.2.1 ∈ lw_all)
    (hd2 : y.cls = C ∧ y.cls ≠ "java/lang/invoke/MethodHandle" ∧ y.cls ≠ "java/lang/invoke/VarHandle" ∧ (parseMethodDescriptor y.desc).map (fun d => d.parameters.length) = some n) (hn' : as.length = n) (hf : N.2.2.2.1 + 1 ≤ M.2.2.2.1) (hL : N.2.1 ≤ 45) (h8 : stw rest ≤ 8) (hd : decode M.1 pc = .ok (.invokevirtual idx, 3))
    (kk : ∀ r1 σ1, GG X M Q (pc + 3) env ((cr r1).toList ++ rest) σ1 (K r1 σ1)) : GG X M Q pc env st σ (ob ci σ x (fun _ => bnd o1 K)) := by
  intro r σf ho
  obtain ⟨b, rfl, hb, hkb, ho⟩ := ob_inv ho
  obtain ⟨r1, σ1, e1, ho⟩ := bnd_inv ho
  obtain ⟨hle1, hMet⟩ := hM r1 σ1 e1
  have hle2 := (kk r1 σ1 r σf ho).1
  refine ⟨hle1.tr hle2, fun hX ls H locs h0 h1 h2 hl hW hS => ?_⟩
  refine run_go (cr := cr) (r1 := r1) (rest := rest) (a := #[]) hX hle1 h0 ?_ hS h1 h2 hl ho (kk r1 σ1)
  obtain ⟨w, hP⟩ := hW.P hb
  exact va_runV (As := as.map (cv (xY X))) (rest := rest.map (cv (xY X))) ⟨hX.ex, hX.co, hX.ml, hX.ow, hX.ts⟩ (hMet (xl X) (xY X) hX.fl) (cwV n hX.ts (lw_V hq1 hq2 hq3 hq4 hq5) rfl rfl rfl hd2 (frames_ok hX hf hL))
    ⟨blind _ _, va_recv hX.K (hP _ (cellE_o hkb hC.2.1)) hC.1 (q0 := 0) rfl, fun U hU hw => ⟨rfl, WS_at hX hW hS hU hw⟩⟩ rfl (by rw [List.length_map]; exact hn') (show ls.size = M.2.1 from hl.1) (by rw [hst, List.map_append, List.map_reverse]; rfl) (lv_room (by rw [stw_cat]; exact h8)) hd (room_ok h0 hle1 hle2 h1 h2)
/-- not null -/
def nn {α : Type} (x : Option Nat) (K : Option α) : Option α := match x with
  | none => none
  | some _ => K
/-- a constructor's call -/
theorem g_callI {γ : Type} {o1 : Option (γ × Hp)} {K : γ → Hp → Option (β × Hp)} {y : MethodName} {N : Mi} {cr : γ → Option LV} {x : Option Nat} {as rest : List LV} {idx n : Nat} (hM : MM y N cr (vA x :: as) σ o1) (hst : st = as.reverse ++ vA x :: rest) (hrt : N.2.2.2.2.1 = none) (hq1 : Cond.methodLink M.2.2.1 idx y ∈ lw_all) (hq2 : Cond.instanceMethod y ∈ lw_all) (hq3 : Cond.initialized y.cls ∈ lw_all) (hq4 : Cond.code y N.1 N.2.1 N.2.2.2.2.1 ∈ lw_all) (hyi : y.name = "<init>")
    (hd2 : y.cls ≠ "java/lang/invoke/MethodHandle" ∧ y.cls ≠ "java/lang/invoke/VarHandle" ∧ (parseMethodDescriptor y.desc).map (fun d => d.parameters.length) = some n) (hn' : as.length = n) (hf : N.2.2.2.1 + 1 ≤ M.2.2.2.1) (hL : N.2.1 ≤ 45) (h8 : stw rest ≤ 8) (hd : decode M.1 pc = .ok (.invokespecial idx, 3))
    (kk : ∀ r1 σ1, GG X M Q (pc + 3) env ((cr r1).toList ++ rest) σ1 (K r1 σ1)) : GG X M Q pc env st σ (nn x (bnd o1 K)) := by
  intro r σf ho
  cases x with
  | none => cases ho
  | some b =>
    obtain ⟨r1, σ1, e1, ho⟩ := bnd_inv ho
    obtain ⟨hle1, hMet⟩ := hM r1 σ1 e1
    have hle2 := (kk r1 σ1 r σf ho).1
    refine ⟨hle1.tr hle2, fun hX ls H locs h0 h1 h2 hl hW hS => ?_⟩
    refine run_go (cr := cr) (r1 := r1) (rest := rest) (a := #[]) hX hle1 h0 ?_ hS h1 h2 hl ho (kk r1 σ1)
    have hMet := hMet (xl X) (xY X) hX.fl
    rw [hrt] at hMet hq4
    exact va_runI (As := as.map (cv (xY X))) (rest := rest.map (cv (xY X))) ⟨hX.ex, hX.co, hX.ml, hX.ow, hX.ts⟩ hMet (cwI n hX.ts (lw_meth hq4) rfl rfl rfl (hX.ts _ hq3) (hX.ts _ hq1) (hX.ts _ hq2) hyi hd2 (frames_ok hX hf hL))
      ⟨blind _ _, fun U hU hw => ⟨rfl, WS_at hX hW hS hU hw⟩⟩ rfl (by rw [List.length_map]; exact hn') (show ls.size = M.2.1 from hl.1) (by rw [hst, List.map_append, List.map_reverse]; rfl) (lv_room (by rw [stw_cat]; exact h8)) hd (room_ok h0 hle1 hle2 h1 h2)
/-- a nest mate's constructor -/
theorem g_callIN {γ : Type} {o1 : Option (γ × Hp)} {K : γ → Hp → Option (β × Hp)} {y : MethodName} {N : Mi} {cr : γ → Option LV} {x : Option Nat} {as rest : List LV} {idx n : Nat} {host : String} (hM : MM y N cr (vA x :: as) σ o1) (hst : st = as.reverse ++ vA x :: rest) (hrt : N.2.2.2.2.1 = none) (hq1 : (M.2.2.1, idx, y, host) ∈ nwM) (hq2 : Cond.instanceMethod y ∈ lw_all) (hq3 : Cond.initialized y.cls ∈ lw_all) (hq4 : Cond.code y N.1 N.2.1 N.2.2.2.2.1 ∈ lw_all) (hyi : y.name = "<init>")
    (hd2 : y.cls ≠ "java/lang/invoke/MethodHandle" ∧ y.cls ≠ "java/lang/invoke/VarHandle" ∧ (parseMethodDescriptor y.desc).map (fun d => d.parameters.length) = some n) (hn' : as.length = n) (hf : N.2.2.2.1 + 1 ≤ M.2.2.2.1) (hL : N.2.1 ≤ 45) (h8 : stw rest ≤ 8) (hd : decode M.1 pc = .ok (.invokespecial idx, 3))
    (kk : ∀ r1 σ1, GG X M Q (pc + 3) env ((cr r1).toList ++ rest) σ1 (K r1 σ1)) : GG X M Q pc env st σ (nn x (bnd o1 K)) := by
  intro r σf ho
  cases x with
  | none => cases ho
  | some b =>
    obtain ⟨r1, σ1, e1, ho⟩ := bnd_inv ho
    obtain ⟨hle1, hMet⟩ := hM r1 σ1 e1
    have hle2 := (kk r1 σ1 r σf ho).1
    refine ⟨hle1.tr hle2, fun hX ls H locs h0 h1 h2 hl hW hS => ?_⟩
    refine run_go (cr := cr) (r1 := r1) (rest := rest) (a := #[]) hX hle1 h0 ?_ hS h1 h2 hl ho (kk r1 σ1)
    have hMet := hMet (xl X) (xY X) hX.fl
    rw [hrt] at hMet hq4
    exact va_runIN (As := as.map (cv (xY X))) (rest := rest.map (cv (xY X))) ⟨hX.ex, hX.co, hX.ml, hX.ow, hX.ts⟩ hMet ⟨va_cnB n hX.ts (lw_meth hq4) rfl rfl rfl (hX.ext.2.2.1 _ hq1) (hX.ts _ hq3) hd2 (frames_ok hX hf hL), hyi, hX.ts _ hq2⟩
      ⟨blind _ _, fun U hU hw => ⟨rfl, WS_at hX hW hS hU hw⟩⟩ rfl (by rw [List.length_map]; exact hn') (show ls.size = M.2.1 from hl.1) (by rw [hst, List.map_append, List.map_reverse]; rfl) (lv_room (by rw [stw_cat]; exact h8)) hd (room_ok h0 hle1 hle2 h1 h2)
/-- Object's constructor -/
theorem g_objInit {idx : Nat} {x : Option Nat} (hq1 : Cond.methodLink M.2.2.1 idx Lib.objectInit ∈ lw_all) (hf : 1 ≤ M.2.2.2.1) (h8 : stw st ≤ 8) (hd : decode M.1 pc = .ok (.invokespecial idx, 3)) (kk : GG X M Q (pc + 3) env st σ o) : GG X M Q pc env (vA x :: st) σ (nn x o) := by
  intro r σf ho
  cases x with
  | none => cases ho
  | some b =>
    obtain ⟨hle, g⟩ := kk r σf ho
    refine ⟨hle, fun hX ls H locs h0 h1 h2 hl hW hS => ?_⟩
    have e1 := hX.frm
    have e2 := hX.lo
    refine W.objInit hX.ex hX.co hX.ow (hX.ts _ hq1) (hX.ts _ q133) (hX.ts _ q134) rfl (by rw [hX.ml]; exact hl.1) (rest := st.map (cv (xY X))) rfl hd (by omega) (by rw [stw_cat]; show 2 * 0 + _ + 12 ≤ _; omega) (g hX ls H locs h0 h1 h2 hl hW hS)
theorem g_callS_I {o1 : Option (Int32 × Hp)} {K : Int32 → Hp → Option (β × Hp)} {y : MethodName} {N : Mi} {as rest : List LV} {idx n : Nat} (hM : MM y N rI as σ o1) (hst : st = as.reverse ++ rest) (hq1 : Cond.methodLink M.2.2.1 idx y ∈ lw_all) (hq2 : Cond.static y ∈ lw_all) (hq3 : Cond.initialized y.cls ∈ lw_all) (hq4 : Cond.code y N.1 N.2.1 N.2.2.2.2.1 ∈ lw_all)
    (hd2 : y.cls ≠ "java/lang/invoke/MethodHandle" ∧ y.cls ≠ "java/lang/invoke/VarHandle" ∧ (parseMethodDescriptor y.desc).map (fun d => d.parameters.length) = some n) (hn' : as.length = n) (hf : N.2.2.2.1 + 1 ≤ M.2.2.2.1) (hL : N.2.1 ≤ 45) (h8 : stw rest ≤ 8) (hd : decode M.1 pc = .ok (.invokestatic idx, 3))
    (kk : ∀ r1 σ1, GG X M Q (pc + 3) env (vI r1 :: rest) σ1 (K r1 σ1)) : GG X M Q pc env st σ (bnd o1 K) := g_callS hM hst hq1 hq2 hq3 hq4 hd2 hn' hf hL h8 hd kk
theorem g_callS_L {o1 : Option (Int64 × Hp)} {K : Int64 → Hp → Option (β × Hp)} {y : MethodName} {N : Mi} {as rest : List LV} {idx n : Nat} (hM : MM y N rL as σ o1) (hst : st = as.reverse ++ rest) (hq1 : Cond.methodLink M.2.2.1 idx y ∈ lw_all) (hq2 : Cond.static y ∈ lw_all) (hq3 : Cond.initialized y.cls ∈ lw_all) (hq4 : Cond.code y N.1 N.2.1 N.2.2.2.2.1 ∈ lw_all)
    (hd2 : y.cls ≠ "java/lang/invoke/MethodHandle" ∧ y.cls ≠ "java/lang/invoke/VarHandle" ∧ (parseMethodDescriptor y.desc).map (fun d => d.parameters.length) = some n) (hn' : as.length = n) (hf : N.2.2.2.1 + 1 ≤ M.2.2.2.1) (hL : N.2.1 ≤ 45) (h8 : stw rest ≤ 8) (hd : decode M.1 pc = .ok (.invokestatic idx, 3))
    (kk : ∀ r1 σ1, GG X M Q (pc + 3) env (vL r1 :: rest) σ1 (K r1 σ1)) : GG X M Q pc env st σ (bnd o1 K) := g_callS hM hst hq1 hq2 hq3 hq4 hd2 hn' hf hL h8 hd kk
theorem g_callS_A {o1 : Option (Option Nat × Hp)} {K : Option Nat → Hp → Option (β × Hp)} {y : MethodName} {N : Mi} {as rest : List LV} {idx n : Nat} (hM : MM y N rA as σ o1) (hst : st = as.reverse ++ rest) (hq1 : Cond.methodLink M.2.2.1 idx y ∈ lw_all) (hq2 : Cond.static y ∈ lw_all) (hq3 : Cond.initialized y.cls ∈ lw_all) (hq4 : Cond.code y N.1 N.2.1 N.2.2.2.2.1 ∈ lw_all)
    (hd2 : y.cls ≠ "java/lang/invoke/MethodHandle" ∧ y.cls ≠ "java/lang/invoke/VarHandle" ∧ (parseMethodDescriptor y.desc).map (fun d => d.parameters.length) = some n) (hn' : as.length = n) (hf : N.2.2.2.1 + 1 ≤ M.2.2.2.1) (hL : N.2.1 ≤ 45) (h8 : stw rest ≤ 8) (hd : decode M.1 pc = .ok (.invokestatic idx, 3))
    (kk : ∀ r1 σ1, GG X M Q (pc + 3) env (vA r1 :: rest) σ1 (K r1 σ1)) : GG X M Q pc env st σ (bnd o1 K) := g_callS hM hst hq1 hq2 hq3 hq4 hd2 hn' hf hL h8 hd kk
theorem g_callS_S {o1 : Option (Nat × Hp)} {K : Nat → Hp → Option (β × Hp)} {y : MethodName} {N : Mi} {as rest : List LV} {idx n : Nat} (hM : MM y N rS as σ o1) (hst : st = as.reverse ++ rest) (hq1 : Cond.methodLink M.2.2.1 idx y ∈ lw_all) (hq2 : Cond.static y ∈ lw_all) (hq3 : Cond.initialized y.cls ∈ lw_all) (hq4 : Cond.code y N.1 N.2.1 N.2.2.2.2.1 ∈ lw_all)
    (hd2 : y.cls ≠ "java/lang/invoke/MethodHandle" ∧ y.cls ≠ "java/lang/invoke/VarHandle" ∧ (parseMethodDescriptor y.desc).map (fun d => d.parameters.length) = some n) (hn' : as.length = n) (hf : N.2.2.2.1 + 1 ≤ M.2.2.2.1) (hL : N.2.1 ≤ 45) (h8 : stw rest ≤ 8) (hd : decode M.1 pc = .ok (.invokestatic idx, 3))
    (kk : ∀ r1 σ1, GG X M Q (pc + 3) env (vS r1 :: rest) σ1 (K r1 σ1)) : GG X M Q pc env st σ (bnd o1 K) := g_callS hM hst hq1 hq2 hq3 hq4 hd2 hn' hf hL h8 hd kk
theorem g_callS_V {o1 : Option (Unit × Hp)} {K : Unit → Hp → Option (β × Hp)} {y : MethodName} {N : Mi} {as rest : List LV} {idx n : Nat} (hM : MM y N rV as σ o1) (hst : st = as.reverse ++ rest) (hq1 : Cond.methodLink M.2.2.1 idx y ∈ lw_all) (hq2 : Cond.static y ∈ lw_all) (hq3 : Cond.initialized y.cls ∈ lw_all) (hq4 : Cond.code y N.1 N.2.1 N.2.2.2.2.1 ∈ lw_all)
    (hd2 : y.cls ≠ "java/lang/invoke/MethodHandle" ∧ y.cls ≠ "java/lang/invoke/VarHandle" ∧ (parseMethodDescriptor y.desc).map (fun d => d.parameters.length) = some n) (hn' : as.length = n) (hf : N.2.2.2.1 + 1 ≤ M.2.2.2.1) (hL : N.2.1 ≤ 45) (h8 : stw rest ≤ 8) (hd : decode M.1 pc = .ok (.invokestatic idx, 3))
    (kk : ∀ r1 σ1, GG X M Q (pc + 3) env (rest) σ1 (K r1 σ1)) : GG X M Q pc env st σ (bnd o1 K) := g_callS hM hst hq1 hq2 hq3 hq4 hd2 hn' hf hL h8 hd kk
theorem g_callV_I {o1 : Option (Int32 × Hp)} {K : Int32 → Hp → Option (β × Hp)} {y : MethodName} {N : Mi} {x : Option Nat} {as rest : List LV} {idx n ci : Nat} {C : String} {T : u_T} {ty : Nat → FieldType} (hM : MM y N rI (vA x :: as) σ o1) (hst : st = as.reverse ++ vA x :: rest) (hC : CO ci C T ty) (hq1 : Cond.methodLink M.2.2.1 idx y ∈ lw_all) (hq2 : Cond.instanceMethod y ∈ lw_all) (hq3 : Cond.selects C y y ∈ lw_all) (hq4 : Cond.initialized C ∈ lw_all) (hq5 : Cond.code y N.1 N.2.1 N.2.2.2.2.1 ∈ lw_all)
    (hd2 : y.cls = C ∧ y.cls ≠ "java/lang/invoke/MethodHandle" ∧ y.cls ≠ "java/lang/invoke/VarHandle" ∧ (parseMethodDescriptor y.desc).map (fun d => d.parameters.length) = some n) (hn' : as.length = n) (hf : N.2.2.2.1 + 1 ≤ M.2.2.2.1) (hL : N.2.1 ≤ 45) (h8 : stw rest ≤ 8) (hd : decode M.1 pc = .ok (.invokevirtual idx, 3))
    (kk : ∀ r1 σ1, GG X M Q (pc + 3) env (vI r1 :: rest) σ1 (K r1 σ1)) : GG X M Q pc env st σ (ob ci σ x (fun _ => bnd o1 K)) := g_callV hM hst hC hq1 hq2 hq3 hq4 hq5 hd2 hn' hf hL h8 hd kk
theorem g_callV_L {o1 : Option (Int64 × Hp)} {K : Int64 → Hp → Option (β × Hp)} {y : MethodName} {N : Mi} {x : Option Nat} {as rest : List LV} {idx n ci : Nat} {C : String} {T : u_T} {ty : Nat → FieldType} (hM : MM y N rL (vA x :: as) σ o1) (hst : st = as.reverse ++ vA x :: rest) (hC : CO ci C T ty) (hq1 : Cond.methodLink M.2.2.1 idx y ∈ lw_all) (hq2 : Cond.instanceMethod y ∈ lw_all) (hq3 : Cond.selects C y y ∈ lw_all) (hq4 : Cond.initialized C ∈ lw_all) (hq5 : Cond.code y N.1 N.2.1 N.2.2.2.2.1 ∈ lw_all)
    (hd2 : y.cls = C ∧ y.cls ≠ "java/lang/invoke/MethodHandle" ∧ y.cls ≠ "java/lang/invoke/VarHandle" ∧ (parseMethodDescriptor y.desc).map (fun d => d.parameters.length) = some n) (hn' : as.length = n) (hf : N.2.2.2.1 + 1 ≤ M.2.2.2.1) (hL : N.2.1 ≤ 45) (h8 : stw rest ≤ 8) (hd : decode M.1 pc = .ok (.invokevirtual idx, 3))
    (kk : ∀ r1 σ1, GG X M Q (pc + 3) env (vL r1 :: rest) σ1 (K r1 σ1)) : GG X M Q pc env st σ (ob ci σ x (fun _ => bnd o1 K)) := g_callV hM hst hC hq1 hq2 hq3 hq4 hq5 hd2 hn' hf hL h8 hd kk
theorem g_callV_A {o1 : Option (Option Nat × Hp)} {K : Option Nat → Hp → Option (β × Hp)} {y : MethodName} {N : Mi} {x : Option Nat} {as rest : List LV} {idx n ci : Nat} {C : String} {T : u_T} {ty : Nat → FieldType} (hM : MM y N rA (vA x :: as) σ o1) (hst : st = as.reverse ++ vA x :: rest) (hC : CO ci C T ty) (hq1 : Cond.methodLink M.2.2.1 idx y ∈ lw_all) (hq2 : Cond.instanceMethod y ∈ lw_all) (hq3 : Cond.selects C y y ∈ lw_all) (hq4 : Cond.initialized C ∈ lw_all) (hq5 : Cond.code y N.1 N.2.1 N.2.2.2.2.1 ∈ lw_all)
    (hd2 : y.cls = C ∧ y.cls ≠ "java/lang/invoke/MethodHandle" ∧ y.cls ≠ "java/lang/invoke/VarHandle" ∧ (parseMethodDescriptor y.desc).map (fun d => d.parameters.length) = some n) (hn' : as.length = n) (hf : N.2.2.2.1 + 1 ≤ M.2.2.2.1) (hL : N.2.1 ≤ 45) (h8 : stw rest ≤ 8) (hd : decode M.1 pc = .ok (.invokevirtual idx, 3))
    (kk : ∀ r1 σ1, GG X M Q (pc + 3) env (vA r1 :: rest) σ1 (K r1 σ1)) : GG X M Q pc env st σ (ob ci σ x (fun _ => bnd o1 K)) := g_callV hM hst hC hq1 hq2 hq3 hq4 hq5 hd2 hn' hf hL h8 hd kk
theorem g_callV_S {o1 : Option (Nat × Hp)} {K : Nat → Hp → Option (β × Hp)} {y : MethodName} {N : Mi} {x : Option Nat} {as rest : List LV} {idx n ci : Nat} {C : String} {T : u_T} {ty : Nat → FieldType} (hM : MM y N rS (vA x :: as) σ o1) (hst : st = as.reverse ++ vA x :: rest) (hC : CO ci C T ty) (hq1 : Cond.methodLink M.2.2.1 idx y ∈ lw_all) (hq2 : Cond.instanceMethod y ∈ lw_all) (hq3 : Cond.selects C y y ∈ lw_all) (hq4 : Cond.initialized C ∈ lw_all) (hq5 : Cond.code y N.1 N.2.1 N.2.2.2.2.1 ∈ lw_all)
    (hd2 : y.cls = C ∧ y.cls ≠ "java/lang/invoke/MethodHandle" ∧ y.cls ≠ "java/lang/invoke/VarHandle" ∧ (parseMethodDescriptor y.desc).map (fun d => d.parameters.length) = some n) (hn' : as.length = n) (hf : N.2.2.2.1 + 1 ≤ M.2.2.2.1) (hL : N.2.1 ≤ 45) (h8 : stw rest ≤ 8) (hd : decode M.1 pc = .ok (.invokevirtual idx, 3))
    (kk : ∀ r1 σ1, GG X M Q (pc + 3) env (vS r1 :: rest) σ1 (K r1 σ1)) : GG X M Q pc env st σ (ob ci σ x (fun _ => bnd o1 K)) := g_callV hM hst hC hq1 hq2 hq3 hq4 hq5 hd2 hn' hf hL h8 hd kk
theorem g_callV_V {o1 : Option (Unit × Hp)} {K : Unit → Hp → Option (β × Hp)} {y : MethodName} {N : Mi} {x : Option Nat} {as rest : List LV} {idx n ci : Nat} {C : String} {T : u_T} {ty : Nat → FieldType} (hM : MM y N rV (vA x :: as) σ o1) (hst : st = as.reverse ++ vA x :: rest) (hC : CO ci C T ty) (hq1 : Cond.methodLink M.2.2.1 idx y ∈ lw_all) (hq2 : Cond.instanceMethod y ∈ lw_all) (hq3 : Cond.selects C y y ∈ lw_all) (hq4 : Cond.initialized C ∈ lw_all) (hq5 : Cond.code y N.1 N.2.1 N.2.2.2.2.1 ∈ lw_all)
    (hd2 : y.cls = C ∧ y.cls ≠ "java/lang/invoke/MethodHandle" ∧ y.cls ≠ "java/lang/invoke/VarHandle" ∧ (parseMethodDescriptor y.desc).map (fun d => d.parameters.length) = some n) (hn' : as.length = n) (hf : N.2.2.2.1 + 1 ≤ M.2.2.2.1) (hL : N.2.1 ≤ 45) (h8 : stw rest ≤ 8) (hd : decode M.1 pc = .ok (.invokevirtual idx, 3))
    (kk : ∀ r1 σ1, GG X M Q (pc + 3) env (rest) σ1 (K r1 σ1)) : GG X M Q pc env st σ (ob ci σ x (fun _ => bnd o1 K)) := g_callV hM hst hC hq1 hq2 hq3 hq4 hq5 hd2 hn' hf hL h8 hd kk
theorem g_callI_V {o1 : Option (Unit × Hp)} {K : Unit → Hp → Option (β × Hp)} {y : MethodName} {N : Mi} {x : Option Nat} {as rest : List LV} {idx n : Nat} (hM : MM y N rV (vA x :: as) σ o1) (hst : st = as.reverse ++ vA x :: rest) (hrt : N.2.2.2.2.1 = none) (hq1 : Cond.methodLink M.2.2.1 idx y ∈ lw_all) (hq2 : Cond.instanceMethod y ∈ lw_all) (hq3 : Cond.initialized y.cls ∈ lw_all) (hq4 : Cond.code y N.1 N.2.1 N.2.2.2.2.1 ∈ lw_all) (hyi : y.name = "<init>")
    (hd2 : y.cls ≠ "java/lang/invoke/MethodHandle" ∧ y.cls ≠ "java/lang/invoke/VarHandle" ∧ (parseMethodDescriptor y.desc).map (fun d => d.parameters.length) = some n) (hn' : as.length = n) (hf : N.2.2.2.1 + 1 ≤ M.2.2.2.1) (hL : N.2.1 ≤ 45) (h8 : stw rest ≤ 8) (hd : decode M.1 pc = .ok (.invokespecial idx, 3))
    (kk : ∀ r1 σ1, GG X M Q (pc + 3) env (rest) σ1 (K r1 σ1)) : GG X M Q pc env st σ (nn x (bnd o1 K)) := g_callI hM hst hrt hq1 hq2 hq3 hq4 hyi hd2 hn' hf hL h8 hd kk
theorem g_callIN_V {o1 : Option (Unit × Hp)} {K : Unit → Hp → Option (β × Hp)} {y : MethodName} {N : Mi} {x : Option Nat} {as rest : List LV} {idx n : Nat} {host : String} (hM : MM y N rV (vA x :: as) σ o1) (hst : st = as.reverse ++ vA x :: rest) (hrt : N.2.2.2.2.1 = none) (hq1 : (M.2.2.1, idx, y, host) ∈ nwM) (hq2 : Cond.instanceMethod y ∈ lw_all) (hq3 : Cond.initialized y.cls ∈ lw_all) (hq4 : Cond.code y N.1 N.2.1 N.2.2.2.2.1 ∈ lw_all) (hyi : y.name = "<init>")
    (hd2 : y.cls ≠ "java/lang/invoke/MethodHandle" ∧ y.cls ≠ "java/lang/invoke/VarHandle" ∧ (parseMethodDescriptor y.desc).map (fun d => d.parameters.length) = some n) (hn' : as.length = n) (hf : N.2.2.2.1 + 1 ≤ M.2.2.2.1) (hL : N.2.1 ≤ 45) (h8 : stw rest ≤ 8) (hd : decode M.1 pc = .ok (.invokespecial idx, 3))
    (kk : ∀ r1 σ1, GG X M Q (pc + 3) env (rest) σ1 (K r1 σ1)) : GG X M Q pc env st σ (nn x (bnd o1 K)) := g_callIN hM hst hrt hq1 hq2 hq3 hq4 hyi hd2 hn' hf hL h8 hd kk
end calls
