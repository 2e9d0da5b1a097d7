/-! FOUNDATION 11: contracts of methods that throw, of methods that catch; their calls -/
/-- a contract with a throw: none says that it threw -/
def MMX {β : Type} (y : MethodName) (M : Mi) (cr : β → Option LV) (as : List LV) (σ : Hp) (o : Option (Option β × Hp)) : Prop :=
  ∀ (r : Option β) (σf : Hp), o = some (r, σf) → Le σ σf ∧ ∀ (l : Launch) (Y : Yx), l.flags = flags0 → vx_Met l y (ws_ y M.1 M.2.1 M.2.2.2.2.1) { frames := M.2.2.2.1, cells := hn σf - hn σ, slots := hu σf - hu σ, locals := 64 * M.2.2.2.1 } (va_Pc (as.map (cv Y)) (WS Y σ)) (fun _ st oc t => ∃ v, r = some v ∧ oc = .returned (cvo Y (cr v)) ∧ WS Y σf t ∧ va_F (fun q => Y.1 ≤ q) st t) (fun E st t => r = none ∧ E = NSE ∧ WS Y σf t ∧ va_F (fun q => Y.1 ≤ q) st t) (hn σf - hn σ) (hu σf - hu σ) (fun q => Y.1 ≤ q)
theorem lsl_eq (Y : Yx) (as : List LV) : (lg_sl (as.map (cv Y))).length = (as.map lvw).sum := by
  induction as with
  | nil => rfl
  | cons v vs ih =>
    simp only [lg_sl, List.map_cons, List.flatMap_cons, List.length_append, List.sum_cons] at ih ⊢
    rw [ih, cv_cat]
    rcases v with x | x | x | x <;> rfl
theorem mmx_of {β : Type} {y : MethodName} {M : Mi} {cr : β → Option LV} {as : List LV} {σ : Hp} {o : Option (Option β × Hp)} (hy : plainName y.cls = true) (hc : y.cls = M.2.2.1) (hn' : y.name = M.2.2.2.2.2) (hL : (as.map lvw).sum ≤ M.2.1)
    (G : ∀ X : Mx, (∀ x ∈ (xc X).exceptionTable.toList, False) → GG X M (QX X cr) 0 (lvE 0 as) [] σ o) : MMX y M cr as σ o := by
  intro r σf ho
  have hle := (G mx0 (fun x hx => nomatch hx) r σf ho).1
  refine ⟨hle, fun l Y hfl => ?_⟩
  refine vx_ofW (cc := M.1) (maxL := M.2.1) (ret := M.2.2.2.2.1) hy rfl ?_
  intro p e s m args below meth c s₁ B hml hem hv
  obtain ⟨rfl, hW, hE⟩ := hv
  have hts := atoms_spec (ws := ws_ y M.1 M.2.1 M.2.2.2.2.1) B.pre
  have hX : OkX (p, l, e, { frames := M.2.2.2.1, cells := hn σf - hn σ, slots := hu σf - hu σ, locals := 64 * M.2.2.2.1 }, s, m, (as.map (cv Y)).toArray, below, meth, c, Y, σ) M :=
    ⟨B.exec, B.bytes, hml, by rw [← hc]; exact findClass_of_methodNamed B.named, fun w h => hts w (List.mem_cons_of_mem _ h), hE, hW.1, Nat.le_refl _, Nat.le_refl _, B.notSynchronized, B.returns, by rw [← hn']; exact (name_of_methodNamed B.named B.method).1, hfl⟩
  obtain ⟨-, g⟩ := G (p, l, e, { frames := M.2.2.2.1, cells := hn σf - hn σ, slots := hu σf - hu σ, locals := 64 * M.2.2.2.1 }, s, m, (as.map (cv Y)).toArray, below, meth, c, Y, σ) hem r σf ho
  rw [lg_entry_eq]
  have hent := lv_entry (as.map (cv Y)) (n := M.2.1) (by rw [lsl_eq]; exact hL)
  rw [lvE_map] at hent
  have g := g hX _ s.heap [] Le.rfl' (by show _ ≤ hn σ + (hn σf - hn σ); have := hle.1; omega) (by show _ ≤ hu σ + (hu σf - hu σ); have := hle.2; omega) hent hW va_S.rf
  have e1 : hn σ - hn σ = 0 := Nat.sub_self _
  have e2 : hu σ - hu σ = 0 := Nat.sub_self _
  dsimp only [xp, xl, xe, xR, xs, xm, xa, xb, xt, xc, xY, x0] at g
  rw [e1, e2] at g
  exact g
/-- a contract of a method with a table of handlers, which throws nothing -/
def MMW {β : Type} (y : MethodName) (M : Mi) (hh : List (Nat × Nat × Nat × Nat)) (cr : β → Option LV) (as : List LV) (σ : Hp) (o : Option (β × Hp)) : Prop :=
  ∀ (r : β) (σf : Hp), o = some (r, σf) → Le σ σf ∧ ∀ (l : Launch) (Y : Yx), l.flags = flags0 → Met l y (wsW_ y M.1 M.2.1 M.2.2.2.2.1 hh) { frames := M.2.2.2.1, cells := hn σf - hn σ, slots := hu σf - hu σ, locals := 64 * M.2.2.2.1 } (va_Pc (as.map (cv Y)) (WS Y σ)) (fun _ st oc t => oc = .returned (cvo Y (cr r)) ∧ WS Y σf t ∧ va_F (fun q => Y.1 ≤ q) st t) (hn σf - hn σ) (hu σf - hu σ) (fun q => Y.1 ≤ q)
def mx1 (hh : List (Nat × Nat × Nat × Nat)) : Mx := (Program.bare "" "" "", launch0, { classPath := fun _ => none }, {}, {}, default, #[], [], default, ⟨0, 0, ⟨#[]⟩, (tableOf hh).toArray, #[]⟩, (0, (fun _ => 0, fun _ _ => 0), fun _ => 0, fun _ => 0), (0, 0, fun _ => (0, 0), fun _ _ => 0, fun _ _ => 0, fun _ _ => none))
theorem mmw_of {β : Type} {y : MethodName} {M : Mi} {hh : List (Nat × Nat × Nat × Nat)} {cr : β → Option LV} {as : List LV} {σ : Hp} {o : Option (β × Hp)} (hy : plainName y.cls = true) (hc : y.cls = M.2.2.1) (hn' : y.name = M.2.2.2.2.2) (hL : (as.map lvw).sum ≤ M.2.1)
    (G : ∀ X : Mx, (xc X).exceptionTable.toList = tableOf hh → GG X M (QM X cr) 0 (lvE 0 as) [] σ o) : MMW y M hh cr as σ o := by
  intro r σf ho
  have hle := (G (mx1 hh) rfl r σf ho).1
  refine ⟨hle, fun l Y hfl => ?_⟩
  refine va_MetW (cc := M.1) (maxL := M.2.1) (ret := M.2.2.2.2.1) (hh := hh) hy rfl ?_
  intro p e s m args below meth c s₁ B hml hv
  obtain ⟨rfl, hW, hE⟩ := hv
  have hts := atoms_spec (ws := wsW_ y M.1 M.2.1 M.2.2.2.2.1 hh) B.pre
  have htab := vx_table (x := y) B (hts _ List.mem_cons_self)
  have hX : OkX (p, l, e, { frames := M.2.2.2.1, cells := hn σf - hn σ, slots := hu σf - hu σ, locals := 64 * M.2.2.2.1 }, s, m, (as.map (cv Y)).toArray, below, meth, c, Y, σ) M :=
    ⟨B.exec, B.bytes, hml, by rw [← hc]; exact findClass_of_methodNamed B.named, fun w h => hts w (List.mem_cons_of_mem _ h), hE, hW.1, Nat.le_refl _, Nat.le_refl _, B.notSynchronized, B.returns, by rw [← hn']; exact (name_of_methodNamed B.named B.method).1, hfl⟩
  obtain ⟨-, g⟩ := G (p, l, e, { frames := M.2.2.2.1, cells := hn σf - hn σ, slots := hu σf - hu σ, locals := 64 * M.2.2.2.1 }, s, m, (as.map (cv Y)).toArray, below, meth, c, Y, σ) htab r σf ho
  rw [lg_entry_eq]
  have hent := lv_entry (as.map (cv Y)) (n := M.2.1) (by rw [lsl_eq]; exact hL)
  rw [lvE_map] at hent
  have g := g hX _ s.heap [] Le.rfl' (by show _ ≤ hn σ + (hn σf - hn σ); have := hle.1; omega) (by show _ ≤ hu σ + (hu σf - hu σ); have := hle.2; omega) hent hW va_S.rf
  have e1 : hn σ - hn σ = 0 := Nat.sub_self _
  have e2 : hu σ - hu σ = 0 := Nat.sub_self _
  dsimp only [xp, xl, xe, xR, xs, xm, xa, xb, xt, xc, xY, x0] at g
  rw [e1, e2] at g
  exact g
/-- a call that returns or throws -/
def bndX {β γ : Type} (o : Option (Option β × Hp)) (K : β → Hp → Option (γ × Hp)) (Kx : Hp → Option (γ × Hp)) : Option (γ × Hp) := match o with
  | none => none
  | some (some r, σ) => K r σ
  | some (none, σ) => Kx σ
section catch_
variable {β : Type} {X : Mx} {M : Mi} {pc : Nat} {Q : β → Hp → State → Prop} {env : List (Nat × LV)} {st : List LV} {σ : Hp} {o : Option (β × Hp)}
theorem env_keep {Y : Yx} {i : Nat} {v : Value} (he : env.all (fun q => !(q.1 == i) && !(q.1 + 1 == i && lv2 q.2)) = true) {ls : Array Slot} {nL : Nat} (h : lv_has ls nL ((i, v) :: (env.map (cve Y)).filter (fun q => !(q.1 == i) && !(q.1 + 1 == i && q.2.category == 2)))) : lv_has ls nL (env.map (cve Y)) := by
  refine ⟨h.1, h.2.1, fun q hq => h.2.2 q (List.mem_cons_of_mem _ (List.mem_filter.mpr ⟨hq, ?_⟩))⟩
  obtain ⟨x, hx, rfl⟩ := List.mem_map.mp hq
  have := List.all_eq_true.mp he x hx
  show (!(x.1 == i) && !(x.1 + 1 == i && (cv Y x.2).category == 2)) = true
  rw [cv_cat2]
  exact this
theorem g_callX {γ : Type} {o1 : Option (Option γ × Hp)} {K : γ → Hp → Option (β × Hp)} {Kx : Hp → Option (β × Hp)} {y : MethodName} {N : Mi} {cr : γ → Option LV} {x : Option Nat} {as rest : List LV} {idx n ci i hpc hp2 ct : Nat} {C : String} {T : u_T} {ty : Nat → FieldType} {e0 e1 : Nat} (htab : (xc X).exceptionTable.toList = tableOf [(e0, e1, hpc, ct)]) (hcov : e0 ≤ pc ∧ pc < e1) (hct : ct ≠ 0) (hqc : Cond.classLink M.2.2.1 ct NSE ∈ lw_all)
    (hst9 : (decode M.1 hpc = .ok (.astore i, 2) ∧ hp2 = hpc + 2) ∨ (∃ j : Fin 4, decode M.1 hpc = .ok (.astore_n j, 1) ∧ (j : Nat) = i ∧ hp2 = hpc + 1)) (hi9 : i < M.2.1) (he9 : env.all (fun q => !(q.1 == i) && !(q.1 + 1 == i && lv2 q.2)) = true)
    (hM : MMX y N cr (vA x :: as) σ o1) (hst : st = as.reverse ++ vA x :: rest) (hC : CO ci C T ty) (hq1 : Cond.methodLink M.2.2.1 idx y ∈ lw_all) (hq2 : Cond.instanceMethod y ∈ lw_all) (hq3 : Cond.selects C y y ∈ lw_all) (hq4 : Cond.initialized C ∈ lw_all) (hq5 : Cond.code y N.1 N.2.1 N.2.2.2.2.1 ∈ lw_all)
    (hd2 : y.cls = C ∧ y.cls ≠ "java/lang/invoke/MethodHandle" ∧ y.cls ≠ "java/lang/invoke/VarHandle" ∧ (parseMethodDescriptor y.desc).map (fun d => d.parameters.length) = some n) (hn' : as.length = n) (hf : N.2.2.2.1 + 1 ≤ M.2.2.2.1) (hL : N.2.1 ≤ 45) (h8 : stw rest ≤ 8) (hd : decode M.1 pc = .ok (.invokevirtual idx, 3))
    (kk : ∀ r1 σ1, GG X M Q (pc + 3) env ((cr r1).toList ++ rest) σ1 (K r1 σ1)) (kx : ∀ σ1, GG X M Q hp2 env [] σ1 (Kx σ1)) : GG X M Q pc env st σ (ob ci σ x (fun _ => bndX o1 K Kx)) := by
  intro r σf ho
  obtain ⟨b, rfl, hb, hkb, ho⟩ := ob_inv ho
  cases o1 with
  | none => cases ho
  | some w =>
    obtain ⟨r1, σ1⟩ := w
    obtain ⟨hle1, hMet⟩ := hM r1 σ1 rfl
    have hle2 : Le σ1 σf := by
      cases r1 with
      | none => exact (kx σ1 r σf ho).1
      | some v => exact (kk v σ1 r σf ho).1
    refine ⟨hle1.tr hle2, fun hX ls H locs h0 h1 h2 hl hW hS => ?_⟩
    obtain ⟨w, hP⟩ := hW.P hb
    have run := vx_runV (g := F0 (xm X) pc ls (st.map (cv (xY X)))) (below := xb X) (p := xp X) (e := xe X) (meth := xt X) (locs := locs) (cells := hn σ - hn (x0 X)) (slots := hu σ - hu (x0 X)) (As := as.map (cv (xY X))) (rest := rest.map (cv (xY X))) ⟨hX.ex, hX.co, hX.ml, hX.ow, hX.ts⟩ (hMet (xl X) (xY X) hX.fl) (cwV n hX.ts (lw_V hq1 hq2 hq3 hq4 hq5) rfl rfl rfl hd2 (frames_ok hX hf hL))
      ⟨blind _ _, va_recv hX.K (hP _ (cellE_o hkb hC.2.1)) hC.1 (q0 := 0) rfl, fun U hU hw => ⟨rfl, WS_at hX hW hS hU hw⟩⟩ rfl (by rw [List.length_map]; exact hn') (show ls.size = M.2.1 from hl.1) (by rw [hst, List.map_append, List.map_reverse]; rfl) (lv_room (by rw [stw_cat]; exact h8)) hd (room_ok h0 hle1 hle2 h1 h2)
    have keep : ∀ (st₀ t : State) (L : List Loc), st₀.heap = H → va_F (xA X) st₀ t → (∀ q ∈ L, xA X q.base) → va_S (xA X) (xs X).heap t.heap (locs ++ L) := by
      intro st₀ t L e0 hF hL
      obtain ⟨f1, f2⟩ := hF
      rw [e0] at f1 f2
      refine ⟨Nat.le_trans hS.1 f1, fun q g1 g2 => (f2 q (Nat.lt_of_lt_of_le g1 hS.1) g2).trans (hS.2.1 q g1 g2), fun q hq => ?_⟩
      rcases List.mem_append.mp hq with h | h
      · exact hS.2.2 q h
      · exact hL q h
    have c1 : hn σ - hn (x0 X) + (hn σ1 - hn σ) = hn σ1 - hn (x0 X) := by have := h0.1; have := hle1.1; omega
    have c2 : hu σ - hu (x0 X) + (hu σ1 - hu σ) = hu σ1 - hu (x0 X) := by have := h0.2; have := hle1.2; omega
    intro TT hT XX
    rcases run TT hT XX with ⟨v, st₀, t, T', L, q0, X', hL', q1, q2, ⟨v1, hv1, hv2, ⟨hWd, -⟩, hF⟩, go⟩ | ⟨q, st₀, t, T', L, E, ce, q0, X', hL', q1, q2, ⟨hr1, hE, ⟨hWd, -⟩, hF⟩, hce, hcv, hcl, go⟩
    · subst hv1
      have hv : v = cvo (xY X) (cr v1) := Outcome.returned.inj hv2
      obtain ⟨-, g⟩ := kk v1 σ1 r σf ho
      have g := g hX ls t.heap (locs ++ L) (h0.tr hle1) h1 h2 hl hWd (keep st₀ t L q0 hF hL')
      rw [c1, c2] at X'
      obtain ⟨t2, a1, b1⟩ := g T' q1 X'
      refine ⟨t2, go t2 ?_, b1⟩
      have es : v.toList ++ rest.map (cv (xY X)) = ((cr v1).toList ++ rest).map (cv (xY X)) := by
        rw [hv, List.map_append]
        congr 1
        cases cr v1 <;> rfl
      rw [es]
      exact a1
    · subst hr1
      subst hE
      obtain ⟨-, g⟩ := kx σ1 r σf ho
      have hS' := keep st₀ t L q0 hF hL'
      rw [c1, c2] at X'
      have step : vx_W (xp X) (xl X) (xe X) (xR X) (xs X) (xm X) (xa X) (xb X) (xt X) (xc X) t.heap (locs ++ L) (hn σ1 - hn (x0 X)) (hu σ1 - hu (x0 X)) (Q r σf) (F0 (xm X) pc ls (rest.map (cv (xY X)))) q := by
        refine vx_catch hX.ow [] ⟨e0, e1, hpc, ct⟩ [] htab (fun z hz => nomatch hz) (by simp [covers, hcov.1, hcov.2]) hct (hX.ts _ hqc) (va_Nw.use rfl hX.ext.2.2.2.2.2.2.2.2.1) hce hcv hcl ?_
        rcases hst9 with ⟨dd, rfl⟩ | ⟨j, dd, hj, rfl⟩
        · exact lv_astore hX.ex hX.co dd hl hi9 rfl (fun ls2 hl2 => g hX ls2 t.heap _ (h0.tr hle1) h1 h2 (env_keep he9 hl2) hWd hS')
        · exact lv_astore_n hX.ex hX.co dd hj hl hi9 rfl (fun ls2 hl2 => g hX ls2 t.heap _ (h0.tr hle1) h1 h2 (env_keep he9 hl2) hWd hS')
      obtain ⟨t2, a1, b1⟩ := step T' q1 X'
      exact ⟨t2, go.trans a1, b1⟩
theorem g_callX_I {o1 : Option (Option Int32 × Hp)} {K : Int32 → Hp → Option (β × Hp)} {Kx : Hp → Option (β × Hp)} {y : MethodName} {N : Mi} {x : Option Nat} {as rest : List LV} {idx n ci i hpc hp2 ct : Nat} {C : String} {T : u_T} {ty : Nat → FieldType} {e0 e1 : Nat} (htab : (xc X).exceptionTable.toList = tableOf [(e0, e1, hpc, ct)]) (hcov : e0 ≤ pc ∧ pc < e1) (hct : ct ≠ 0) (hqc : Cond.classLink M.2.2.1 ct NSE ∈ lw_all)
    (hst9 : (decode M.1 hpc = .ok (.astore i, 2) ∧ hp2 = hpc + 2) ∨ (∃ j : Fin 4, decode M.1 hpc = .ok (.astore_n j, 1) ∧ (j : Nat) = i ∧ hp2 = hpc + 1)) (hi9 : i < M.2.1) (he9 : env.all (fun q => !(q.1 == i) && !(q.1 + 1 == i && lv2 q.2)) = true)
    (hM : MMX y N rI (vA x :: as) σ o1) (hst : st = as.reverse ++ vA x :: rest) (hC : CO ci C T ty) (hq1 : Cond.methodLink M.2.2.1 idx y ∈ lw_all) (hq2 : Cond.instanceMethod y ∈ lw_all) (hq3 : Cond.selects C y y ∈ lw_all) (hq4 : Cond.initialized C ∈ lw_all) (hq5 : Cond.code y N.1 N.2.1 N.2.2.2.2.1 ∈ lw_all)
    (hd2 : y.cls = C ∧ y.cls ≠ "java/lang/invoke/MethodHandle" ∧ y.cls ≠ "java/lang/invoke/VarHandle" ∧ (parseMethodDescriptor y.desc).map (fun d => d.parameters.length) = some n) (hn' : as.length = n) (hf : N.2.2.2.1 + 1 ≤ M.2.2.2.1) (hL : N.2.1 ≤ 45) (h8 : stw rest ≤ 8) (hd : decode M.1 pc = .ok (.invokevirtual idx, 3))
    (kk : ∀ r1 σ1, GG X M Q (pc + 3) env (vI r1 :: rest) σ1 (K r1 σ1)) (kx : ∀ σ1, GG X M Q hp2 env [] σ1 (Kx σ1)) : GG X M Q pc env st σ (ob ci σ x (fun _ => bndX o1 K Kx)) := g_callX htab hcov hct hqc hst9 hi9 he9 hM hst hC hq1 hq2 hq3 hq4 hq5 hd2 hn' hf hL h8 hd kk kx
theorem g_callX_L {o1 : Option (Option Int64 × Hp)} {K : Int64 → Hp → Option (β × Hp)} {Kx : Hp → Option (β × Hp)} {y : MethodName} {N : Mi} {x : Option Nat} {as rest : List LV} {idx n ci i hpc hp2 ct : Nat} {C : String} {T : u_T} {ty : Nat → FieldType} {e0 e1 : Nat} (htab : (xc X).exceptionTable.toList = tableOf [(e0, e1, hpc, ct)]) (hcov : e0 ≤ pc ∧ pc < e1) (hct : ct ≠ 0) (hqc : Cond.classLink M.2.2.1 ct NSE ∈ lw_all)
    (hst9 : (decode M.1 hpc = .ok (.astore i, 2) ∧ hp2 = hpc + 2) ∨ (∃ j : Fin 4, decode M.1 hpc = .ok (.astore_n j, 1) ∧ (j : Nat) = i ∧ hp2 = hpc + 1)) (hi9 : i < M.2.1) (he9 : env.all (fun q => !(q.1 == i) && !(q.1 + 1 == i && lv2 q.2)) = true)
    (hM : MMX y N rL (vA x :: as) σ o1) (hst : st = as.reverse ++ vA x :: rest) (hC : CO ci C T ty) (hq1 : Cond.methodLink M.2.2.1 idx y ∈ lw_all) (hq2 : Cond.instanceMethod y ∈ lw_all) (hq3 : Cond.selects C y y ∈ lw_all) (hq4 : Cond.initialized C ∈ lw_all) (hq5 : Cond.code y N.1 N.2.1 N.2.2.2.2.1 ∈ lw_all)
    (hd2 : y.cls = C ∧ y.cls ≠ "java/lang/invoke/MethodHandle" ∧ y.cls ≠ "java/lang/invoke/VarHandle" ∧ (parseMethodDescriptor y.desc).map (fun d => d.parameters.length) = some n) (hn' : as.length = n) (hf : N.2.2.2.1 + 1 ≤ M.2.2.2.1) (hL : N.2.1 ≤ 45) (h8 : stw rest ≤ 8) (hd : decode M.1 pc = .ok (.invokevirtual idx, 3))
    (kk : ∀ r1 σ1, GG X M Q (pc + 3) env (vL r1 :: rest) σ1 (K r1 σ1)) (kx : ∀ σ1, GG X M Q hp2 env [] σ1 (Kx σ1)) : GG X M Q pc env st σ (ob ci σ x (fun _ => bndX o1 K Kx)) := g_callX htab hcov hct hqc hst9 hi9 he9 hM hst hC hq1 hq2 hq3 hq4 hq5 hd2 hn' hf hL h8 hd kk kx
/-- a static call of a method with handlers -/
theorem g_callSW_I {o1 : Option (Int32 × Hp)} {K : Int32 → Hp → Option (β × Hp)} {y : MethodName} {N : Mi} {hh : List (Nat × Nat × Nat × Nat)} {as rest : List LV} {idx n : Nat} (hM : MMW y N hh rI as σ o1) (hst : st = as.reverse ++ rest) (hq1 : Cond.methodLink M.2.2.1 idx y ∈ lw_all) (hq2 : Cond.static y ∈ lw_all) (hq3 : Cond.initialized y.cls ∈ lw_all) (hq4 : Cond.codeWith y N.1 N.2.1 N.2.2.2.2.1 hh ∈ lw_all)
    (hd2 : y.cls ≠ "java/lang/invoke/MethodHandle" ∧ y.cls ≠ "java/lang/invoke/VarHandle" ∧ (parseMethodDescriptor y.desc).map (fun d => d.parameters.length) = some n) (hn' : as.length = n) (hf : N.2.2.2.1 + 1 ≤ M.2.2.2.1) (hL : N.2.1 ≤ 45) (h8 : stw rest ≤ 8) (hd : decode M.1 pc = .ok (.invokestatic idx, 3))
    (kk : ∀ r1 σ1, GG X M Q (pc + 3) env (vI r1 :: rest) σ1 (K r1 σ1)) : GG X M Q pc env st σ (bnd o1 K) := by
  intro r σf ho
  obtain ⟨r1, σ1, e1, ho⟩ := bnd_inv ho
  obtain ⟨hle1, hMet⟩ := hM r1 σ1 e1
  have hle2 := (kk r1 σ1 r σf ho).1
  refine ⟨hle1.tr hle2, fun hX ls H locs h0 h1 h2 hl hW hS => ?_⟩
  refine run_go (cr := rI) (r1 := r1) (rest := rest) (a := #[]) hX hle1 h0 ?_ hS h1 h2 hl ho (kk r1 σ1)
  exact vx_runSW (As := as.map (cv (xY X))) (rest := rest.map (cv (xY X))) ⟨hX.ex, hX.co, hX.ml, hX.ow, hX.ts⟩ (hMet (xl X) (xY X) hX.fl) (vx_cwSW n hX.ts (lw_SW hq1 hq2 hq3 hq4) rfl rfl rfl hd2 (frames_ok hX hf hL))
    ⟨blind _ _, fun U hU hw => ⟨rfl, WS_at hX hW hS hU hw⟩⟩ rfl (by rw [List.length_map]; exact hn') (show ls.size = M.2.1 from hl.1) (by rw [hst, List.map_append, List.map_reverse]) (lv_room (by rw [stw_cat]; exact h8)) hd (room_ok h0 hle1 hle2 h1 h2)
end catch_
