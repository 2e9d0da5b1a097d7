/-! FOUNDATION 8: String constants -/
/-- a String constant -/
def sV {γ : Type} (x : Nat) (K : Option γ) : Option γ := if x < 8 then K else none
/-- a byte of a String constant's text -/
def lS {γ : Type} (x : Nat) (i : Int32) (K : Int32 → Option γ) : Option γ := if (8 ≤ x ∧ x < 16) ∧ ¬ (i < 0 ∨ strLen.getD (x - 8) 0 ≤ i.toNatClampNeg) then K ((strByt.getD (x - 8) []).getD i.toNatClampNeg 0) else none
section strs
variable {β : Type} {X : Mx} {M : Mi} {pc : Nat} {Q : β → Hp → State → Prop} {env : List (Nat × LV)} {st : List LV} {σ : Hp} {o : Option (β × Hp)}
theorem g_ldcS {k idx : Nat} (hk : k < 8) (ho : M.2.2.1 = "RockingHorse") (hi : strIx.getD k 0 = idx) (hd : decode M.1 pc = .ok (.ldc idx, 2)) (kk : GG X M Q (pc + 2) env (vS k :: st) σ o) : GG X M Q pc env st σ o := by
  subst hi
  intro r σf h
  obtain ⟨hle, g⟩ := kk r σf h
  refine ⟨hle, fun hX ls H locs h0 h1 h2 hl hW hS => ?_⟩
  exact va_ldcS hX.ex hX.co hX.ow (by rw [ho]; exact hX.ext.2.2.2.2.2.2.1 k hk) hd (g hX ls H locs h0 h1 h2 hl hW hS)
theorem g_ldcwS {k idx : Nat} (hk : k < 8) (ho : M.2.2.1 = "RockingHorse") (hi : strIx.getD k 0 = idx) (hd : decode M.1 pc = .ok (.ldc_w idx, 3)) (kk : GG X M Q (pc + 3) env (vS k :: st) σ o) : GG X M Q pc env st σ o := by
  intro r σf h
  obtain ⟨hle, g⟩ := kk r σf h
  refine ⟨hle, fun hX ls H locs h0 h1 h2 hl hW hS => ?_⟩
  have hR : vk_R M.2.2.1 idx (strTx.getD k "") ((xY X).2.2.1 k) (xs X) := by rw [ho, ← hi]; exact hX.ext.2.2.2.2.2.2.1 k hk
  intro T hT XX
  obtain ⟨t, a1, b1⟩ := g hX ls H locs h0 h1 h2 hl hW hS T hT XX
  refine ⟨t, ?_, b1⟩
  obtain ⟨kc, cf, i, a', hkc, hcf, hcp, -, hr, hev'⟩ := Cond.stringRef_spec hX.ow hR.1
  cases hR.2.symm.trans hev'
  obtain ⟨k', hk', he⟩ := XX.warmed.alike.2.2 _ _ hkc
  have hr' : k'.resolved[idx]? = some (some (.string ((xY X).2.2.1 k))) := by
    rcases XX.warmed.entry hkc hk' idx with h | ⟨h, -⟩
    · rw [h]; exact hr
    · rw [hr] at h; cases h
  have hd' : decode (xc X).code pc = .ok (.ldc_w idx, 3) := by rw [hX.co]; exact hd
  have hx := hX.ex
  jvm_step XX.here [hx, hd', ldc_w.wp_string (e := xe X) (s := T) (f := F0 (xm X) pc ls (st.map (cv (xY X)))) XX.here.top hk' (by rw [he]; exact hcf) hcp hr']
  exact a1
theorem g_none : GG X M Q pc env st σ none := fun _ _ h => nomatch h
/-- the length of a String constant's text -/
def nS {γ : Type} (x : Nat) (K : Int32 → Option γ) : Option γ := if 8 ≤ x ∧ x < 16 then K (Int32.ofNat (strLen.getD (x - 8) 0)) else none
theorem g_strValue {x idx : Nat} (hq : Cond.fieldLink M.2.2.1 idx "java/lang/String" "value" "[B" ∈ lw_all) (hd : decode M.1 pc = .ok (.getfield idx, 3)) (kk : GG X M Q (pc + 3) env (vS (8 + x) :: st) σ o) : GG X M Q pc env (vS x :: st) σ (sV x o) := by
  intro r σf h
  unfold sV at h
  by_cases hx : x < 8
  · rw [if_pos hx] at h
    obtain ⟨hle, g⟩ := kk r σf h
    refine ⟨hle, fun hX ls H locs h0 h1 h2 hl hW hS => ?_⟩
    exact vk_getf hX.ex hX.co (hX.ext.2.2.2.2.2.1.1 x hx).2.2.1 hS hX.ow (hX.ts _ hq) (fun _ h => h) hd (g hX ls H locs h0 h1 h2 hl hW hS)
  · rw [if_neg hx] at h; cases h
theorem g_strCoder {x idx : Nat} (hq : Cond.fieldLink M.2.2.1 idx "java/lang/String" "coder" "B" ∈ lw_all) (hd : decode M.1 pc = .ok (.getfield idx, 3)) (kk : GG X M Q (pc + 3) env (vI 0 :: st) σ o) : GG X M Q pc env (vS x :: st) σ (sV x o) := by
  intro r σf h
  unfold sV at h
  by_cases hx : x < 8
  · rw [if_pos hx] at h
    obtain ⟨hle, g⟩ := kk r σf h
    refine ⟨hle, fun hX ls H locs h0 h1 h2 hl hW hS => ?_⟩
    exact vk_getf hX.ex hX.co (hX.ext.2.2.2.2.2.1.1 x hx).2.1 hS hX.ow (hX.ts _ hq) (fun _ h => h) hd (g hX ls H locs h0 h1 h2 hl hW hS)
  · rw [if_neg hx] at h; cases h
theorem g_compact {idx : Nat} (hq : Cond.fieldLink M.2.2.1 idx "java/lang/String" "COMPACT_STRINGS" "Z" ∈ lw_all) (hd : decode M.1 pc = .ok (.getstatic idx, 3)) (kk : GG X M Q (pc + 3) env (vI 1 :: st) σ o) : GG X M Q pc env st σ o := by
  intro r σf h
  obtain ⟨hle, g⟩ := kk r σf h
  refine ⟨hle, fun hX ls H locs h0 h1 h2 hl hW hS => ?_⟩
  exact va_gets hX.ex hX.co hX.ext.2.2.2.2.2.2.2.1 hS hX.ow (hX.ts _ hq) (fun _ h => h) hd (g hX ls H locs h0 h1 h2 hl hW hS)
theorem g_alenS {x : Nat} {K : Int32 → Option (β × Hp)} (hd : decode M.1 pc = .ok (.arraylength, 1)) (kk : ∀ v, GG X M Q (pc + 1) env (vI v :: st) σ (K v)) : GG X M Q pc env (vS x :: st) σ (nS x K) := by
  intro r σf h
  unfold nS at h
  by_cases hx : 8 ≤ x ∧ x < 16
  · rw [if_pos hx] at h
    obtain ⟨hle, g⟩ := kk _ r σf h
    refine ⟨hle, fun hX ls H locs h0 h1 h2 hl hW hS => ?_⟩
    have hT := (hX.ext.2.2.2.2.2.1.1 (x - 8) (by omega)).2.2.2
    dsimp only at hT
    rw [show 8 + (x - 8) = x by omega] at hT
    exact va_tlen hX.ex hX.co hT hS rfl hd (g hX ls H locs h0 h1 h2 hl hW hS)
  · rw [if_neg hx] at h; cases h
theorem g_baloadS {x : Nat} {i : Int32} {K : Int32 → Option (β × Hp)} (hd : decode M.1 pc = .ok (.baload, 1)) (kk : ∀ v, GG X M Q (pc + 1) env (vI v :: st) σ (K v)) : GG X M Q pc env (vI i :: vS x :: st) σ (lS x i K) := by
  intro r σf h
  unfold lS at h
  by_cases hx : (8 ≤ x ∧ x < 16) ∧ ¬ (i < 0 ∨ strLen.getD (x - 8) 0 ≤ i.toNatClampNeg)
  · rw [if_pos hx] at h
    obtain ⟨hle, g⟩ := kk _ r σf h
    refine ⟨hle, fun hX ls H locs h0 h1 h2 hl hW hS => ?_⟩
    have hT := (hX.ext.2.2.2.2.2.1.1 (x - 8) (by omega)).2.2.2
    dsimp only at hT
    rw [show 8 + (x - 8) = x by omega] at hT
    exact va_tb hX.ex hX.co hT hS hx.2 rfl hd (g hX ls H locs h0 h1 h2 hl hW hS)
  · rw [if_neg hx] at h; cases h
theorem g_bret (hr : M.2.2.2.2.1 = some .byte) {v : Int32} (hd : decode M.1 pc = .ok (.ireturn, 1)) : GG X M (QM X rI) pc env [vI v] σ (rz1 v σ) := by
  intro r σf ho
  unfold rz1 at ho
  by_cases hv : v = 0 ∨ v = 1
  · rw [if_pos hv] at ho
    cases ho
    exact ⟨Le.rfl', fun hX ls H locs h0 h1 h2 hl hW hS => W.zret hX.ex hX.co (hX.rt.trans hr) (by rcases hv with rfl | rfl <;> rfl) (fun t ht hw => ⟨rfl, WS_at hX hW hS ht hw, hS.F ht⟩) hS.2.2 hd hX.lk⟩
  · rw [if_neg hv] at ho; cases ho
/-- a call through a String constant -/
theorem g_callStr_I {o1 : Option (Int32 × Hp)} {K : Int32 → Hp → Option (β × Hp)} {y : MethodName} {N : Mi} {x : Nat} {as rest : List LV} {idx n : Nat} (hM : MM y N rI (vS x :: as) σ o1) (hst : st = as.reverse ++ vS x :: rest) (hq1 : Cond.methodLink M.2.2.1 idx y ∈ lw_all) (hq2 : Cond.instanceMethod y ∈ lw_all) (hq3 : Cond.selects "java/lang/String" y y ∈ lw_all) (hq4 : Cond.initialized "java/lang/String" ∈ lw_all) (hq5 : Cond.code y N.1 N.2.1 N.2.2.2.2.1 ∈ lw_all)
    (hd2 : y.cls = "java/lang/String" ∧ y.cls ≠ "java/lang/invoke/MethodHandle" ∧ y.cls ≠ "java/lang/invoke/VarHandle" ∧ (parseMethodDescriptor y.desc).map (fun d => d.parameters.length) = some n) (hn' : as.length = n) (hf : N.2.2.2.1 + 1 ≤ M.2.2.2.1) (hL : N.2.1 ≤ 45) (h8 : stw rest ≤ 8) (hd : decode M.1 pc = .ok (.invokevirtual idx, 3))
    (kk : ∀ r1 σ1, GG X M Q (pc + 3) env (vI r1 :: rest) σ1 (K r1 σ1)) : GG X M Q pc env st σ (sV x (bnd o1 K)) := by
  intro r σf ho
  unfold sV at ho
  by_cases hx : x < 8
  · rw [if_pos hx] at ho
    obtain ⟨r1, σ1, e1, ho⟩ := bnd_inv ho
    obtain ⟨hle1, hMet⟩ := hM r1 σ1 e1
    have hle2 := (kk r1 σ1 r σf ho).1
    refine ⟨hle1.tr hle2, fun hX ls H locs h0 h1 h2 hl hW hS => ?_⟩
    refine run_go (cr := rI) (r1 := r1) (rest := rest) (a := #[]) hX hle1 h0 ?_ hS h1 h2 hl ho (kk r1 σ1)
    exact va_runV (As := as.map (cv (xY X))) (rest := rest.map (cv (xY X))) ⟨hX.ex, hX.co, hX.ml, hX.ow, hX.ts⟩ (hMet (xl X) (xY X) hX.fl) (cwV n hX.ts (lw_V hq1 hq2 hq3 hq4 hq5) rfl rfl rfl hd2 (frames_ok hX hf hL))
      ⟨blind _ _, vk_recv hX.ext.2.2.2.2.2.1 hx hS, fun U hU hw => ⟨rfl, WS_at hX hW hS hU hw⟩⟩ rfl (by rw [List.length_map]; exact hn') (show ls.size = M.2.1 from hl.1) (by rw [hst, List.map_append, List.map_reverse]; rfl) (lv_room (by rw [stw_cat]; exact h8)) hd (room_ok h0 hle1 hle2 h1 h2)
  · rw [if_neg hx] at ho; cases ho
end strs
