/-! FOUNDATION 9: a Node's own constructor, calls of a Node's value -/
theorem lt_b {i n : Nat} (h : Nat.blt i n = true) : i < n := Nat.le_of_ble_eq_true h
/-- Node.<init> writes a field that nobody reads; its neighbour of the same name holds the same -/
def ndc {γ : Type} (σ : Hp) (x v : Option Nat) (K : Option γ) : Option γ := match x with
  | none => none
  | some a => if a < hn σ ∧ (((3 ≤ (hk σ a).1 ∧ (hk σ a).1 ≤ 5) ∧ hr σ a 1 = v) ∨ ((hk σ a).1 = 6 ∧ hr σ a 3 = v)) then K else none
section node
variable {β : Type} {X : Mx} {M : Mi} {pc : Nat} {Q : β → Hp → State → Prop} {env : List (Nat × LV)} {st : List LV} {σ : Hp} {o : Option (β × Hp)}
theorem put_dc (hX : OkX X M) {ci kd ko a idx : Nat} {C : String} {T : u_T} {ty : Nat → FieldType} {H : Heap} {locs : List Loc} {ls : Array Slot} {v : Option Nat} {Qw : State → Prop} {cells slots : Nat} (hC : CO ci C T ty) (hkd : kd < cN ci) (hd9 : cT ci kd = 9) (hTd : T kd = ("RockingHorse$Node", "this$0", "LRockingHorse;", true)) (htyd : ty kd = .object "RockingHorse") (hko : ko < cN ci) (ho1 : cT ci ko = 1) (hnm2 : ∀ j, j < cN ci → j ≠ kd → j ≠ ko → (T j).2.1 ≠ "this$0")
    (hq : Cond.fieldLink M.2.2.1 idx "RockingHorse$Node" "this$0" "LRockingHorse;" ∈ lw_all) (hown : M.2.2.1 = "RockingHorse$Node") (hin : M.2.2.2.2.2 = "<init>") (hd : decode M.1 pc = .ok (.putfield idx, 3)) (hW : Wd (xY X) σ H) (ha : a < hn σ) (hc : (hk σ a).1 = ci) (hv : hr σ a ko = v)
    (kk : ∀ H1 locs1, Wd (xY X) σ H1 → H1.size = H.size → (∀ q, q ≠ (xY X).1 + a → H1[q]? = H[q]?) → (∃ i, locs1 = locs ++ [⟨(xY X).1 + a, i⟩]) → W (xp X) (xl X) (xe X) (xR X) (xs X) (xm X) (xa X) (xb X) (xt X) (xc X) H1 locs1 cells slots Qw (F0 (xm X) (pc + 3) ls (st.map (cv (xY X))))) :
    W (xp X) (xl X) (xe X) (xR X) (xs X) (xm X) (xa X) (xb X) (xt X) (xc X) H locs cells slots Qw (F0 (xm X) pc ls ((vA v :: vA (some a) :: st).map (cv (xY X)))) := by
  obtain ⟨hcl, hci, hin2, hty, hnm, h9⟩ := hC
  obtain ⟨w0, hat⟩ := hW.2 a ha
  rw [cellE_o hc hci] at hat
  obtain ⟨r, h1, cell, q1, q2, q3, q4⟩ := hat
  have hr' : r = (C, T, cN ci) := Option.some.inj (h1.symm.trans hcl)
  subst hr'
  obtain ⟨hS, hfc, kC, hkC, hkind⟩ := hX.K.1 ci _ hcl
  obtain ⟨cf, kf, fi, f, hi, hsl⟩ := hS kd hkd
  have hlay := hX.ts _ (hin2 _ (u_in_lay hkd))
  have hl2 := u_lays hX.ts hin2 hkd
  have hst := (u_facts hfc hkC hl2 hi).1
  have hfit := ref_fit (ty := ty kd) (r := rz (xY X) v) (Or.inl ⟨_, htyd⟩)
  have hfit2 := u_fits hfc hkC hkind hl2 hi (hty kd hkd) hfit.1 hfit.2
  have hcf : (xm X).cls = cf := by
    unfold u_lay at hlay
    rw [if_pos (by rw [hTd])] at hlay
    obtain ⟨_, _, c', _, _, _, -, -, hf', -, -, -, hown2, -⟩ := Cond.laysFinal_spec hlay
    have e1 : c' = cf := by have := hi.symm.trans hf'; simp at this; exact this.1.symm
    rw [hTd] at hown2
    have ho := hX.ow
    rw [hown] at ho
    rw [← e1]; exact Option.some.inj (ho.symm.trans hown2)
  have hap : ∀ j, j < cN ci → j ≠ kd → j ≠ ko → (xY X).2.1.2 ci kd ≠ (xY X).2.1.2 ci j := by
    intro j hj hjd hjo
    obtain ⟨_, _, _, fb, hib, eb⟩ := hS j hj
    rw [← hsl, ← eb]
    refine u_apart hl2 (u_lays hX.ts hin2 hj) hi hib ?_
    rw [(State.fieldFound?_type hi (hty kd hkd)).1, (State.fieldFound?_type hib (hty j hj)).1]
    show (T kd).2.1 ≠ (T j).2.1
    rw [hTd]
    exact Ne.symm (hnm2 j hj hjd hjo)
  have hi2 : (xs X).fieldFound? "RockingHorse$Node" "this$0" "LRockingHorse;" = some (cf, kf, fi, f) := by
    have h := hi
    dsimp only at h
    rw [hTd] at h
    exact h
  refine W.putFinK hX.ex hX.co hX.ow (hX.ts _ hq) hi2 hst hcf (hX.nm.trans hin) (v := va_rf (rz (xY X) v)) (by rw [q2]; exact hfit2) q1 q3 (by rw [hsl]; exact k2_hasslot (q4 kd hkd)) rfl rfl hd fun H1 f1 f2 f3 => ?_
  refine kk H1 _ (hW.set rfl (fun b hb w => rfl) ⟨va_rf (rz (xY X) v), ?_⟩ f2 f3) f2 f3 ⟨_, rfl⟩
  rw [cellE_o hc hci]
  rw [hsl] at f1
  refine ⟨_, hcl, ⟨_, f1, q2, q3, fun j hj => ?_⟩⟩
  have hV : ∀ w, vp_V (flds (xY X) σ ci a w) j = fldv (xY X) σ a j (cT ci j) w := fun w => by
    unfold vp_V
    rw [List.getD_eq_getElem?_getD, flds_at hj]
    rfl
  rw [hV]
  by_cases hjd : j = kd
  · subst hjd
    rw [Cell.slots_setSlot_self _ (k2_hasslot (q4 j hj)), hd9]
    rfl
  · have hj9 : cT ci j ≠ 9 := fun h => hjd (h9 j hj kd hkd h hd9)
    by_cases hs : (xY X).2.1.2 ci kd = (xY X).2.1.2 ci j
    · have hjo : j = ko := Classical.byContradiction fun h => hap j hj hjd h hs
      subst hjo
      rw [← hs, Cell.slots_setSlot_self _ (k2_hasslot (q4 kd hkd)), ho1]
      show some _ = some (va_rf (rz (xY X) (hr σ a j)))
      rw [hv]
    · rw [slot_ne _ _ hs, q4 j hj, hV]
      unfold fldv
      by_cases h1 : cT ci j = 1
      · rw [if_pos h1, if_pos h1]
      · rw [if_neg h1, if_neg h1, if_neg hj9, if_neg hj9]
theorem g_putNode {x v : Option Nat} {idx : Nat} (hq : Cond.fieldLink M.2.2.1 idx "RockingHorse$Node" "this$0" "LRockingHorse;" ∈ lw_all) (hown : M.2.2.1 = "RockingHorse$Node") (hin : M.2.2.2.2.2 = "<init>") (hd : decode M.1 pc = .ok (.putfield idx, 3)) (kk : GG X M Q (pc + 3) env st σ o) : GG X M Q pc env (vA v :: vA x :: st) σ (ndc σ x v o) := by
  intro r σf ho
  cases x with
  | none => cases ho
  | some a =>
    have ho : (if a < hn σ ∧ (((3 ≤ (hk σ a).1 ∧ (hk σ a).1 ≤ 5) ∧ hr σ a 1 = v) ∨ ((hk σ a).1 = 6 ∧ hr σ a 3 = v)) then o else none) = some (r, σf) := ho
    split at ho
    · next hc =>
      obtain ⟨hle, g⟩ := kk r σf ho
      refine ⟨hle, fun hX ls H locs h0 h1 h2 hl hW hS => ?_⟩
      have fin : ∀ H1 locs1, Wd (xY X) σ H1 → H1.size = H.size → (∀ q, q ≠ (xY X).1 + a → H1[q]? = H[q]?) → (∃ i, locs1 = locs ++ [⟨(xY X).1 + a, i⟩]) → W (xp X) (xl X) (xe X) (xR X) (xs X) (xm X) (xa X) (xb X) (xt X) (xc X) H1 locs1 (hn σ - hn (x0 X)) (hu σ - hu (x0 X)) (Q r σf) (F0 (xm X) (pc + 3) ls (st.map (cv (xY X)))) := by
        intro H1 locs1 w1 w2 w3 ⟨i, w4⟩
        subst w4
        exact g hX ls H1 _ h0 h1 h2 hl w1 (hS_put hS w2 w3)
      obtain ⟨ha, ⟨⟨k1, k2⟩, hv⟩ | ⟨k1, hv⟩⟩ := hc
      · have : (hk σ a).1 = 3 ∨ (hk σ a).1 = 4 ∨ (hk σ a).1 = 5 := by omega
        rcases this with hk' | hk' | hk'
        · exact put_dc hX (kd := 2) (ko := 1) zc_3 (by decide) rfl rfl rfl (by decide) rfl (by decide +kernel) hq hown hin hd hW ha hk' hv fin
        · exact put_dc hX (kd := 2) (ko := 1) zc_4 (by decide) rfl rfl rfl (by decide) rfl (by decide +kernel) hq hown hin hd hW ha hk' hv fin
        · exact put_dc hX (kd := 2) (ko := 1) zc_5 (by decide) rfl rfl rfl (by decide) rfl (by decide +kernel) hq hown hin hd hW ha hk' hv fin
      · exact put_dc hX (kd := 4) (ko := 3) zc_6 (by decide) rfl rfl rfl (by decide) rfl (by decide +kernel) hq hown hin hd hW ha k1 hv fin
    · cases ho
/-- a Node's value, of whatever class -/
def MV (fr : Nat) (x : Option Nat) (σ : Hp) (o : Option (Int32 × Hp)) : Prop := ∀ r σf, o = some (r, σf) → ∃ a, x = some a ∧ a < hn σ ∧ ∃ (C : String) (T : u_T) (ty : Nat → FieldType) (y : MethodName) (N : Mi), CO (hk σ a).1 C T ty ∧ MM y N rI [vA x] σ o ∧ N.2.2.2.1 ≤ fr ∧ N.2.1 ≤ 45 ∧ Cond.selects C ⟨"RockingHorse$Node", "value", "()I"⟩ y ∈ lw_all ∧ Cond.instanceMethod y ∈ lw_all ∧ Cond.initialized y.cls ∈ lw_all ∧ Cond.code y N.1 N.2.1 N.2.2.2.2.1 ∈ lw_all
theorem lw_U {own : String} {idx : Nat} {C owner : String} {x y : MethodName} {b : ByteArray} {L : Nat} {r : Option FieldType} (h1 : Cond.methodLink own idx x ∈ lw_all) (h2 : Cond.sameMethod x.cls owner x.name x.desc ∈ lw_all) (h3 : Cond.selects C x y ∈ lw_all) (h4 : Cond.instanceMethod y ∈ lw_all) (h5 : Cond.initialized y.cls ∈ lw_all) (h6 : Cond.code y b L r ∈ lw_all) : GoodIn lw_all (va_wsU own idx C owner x y (ws_ y b L r)) := by
  refine lw_app ?_ (lw_meth h6)
  intro w hw
  simp only [List.mem_cons, List.not_mem_nil, or_false] at hw
  rcases hw with e | e | e | e | e
  · rw [e]; exact h1
  · rw [e]; exact h2
  · rw [e]; exact h3
  · rw [e]; exact h4
  · rw [e]; exact h5
theorem g_callNode {o1 : Option (Int32 × Hp)} {K : Int32 → Hp → Option (β × Hp)} {x : Option Nat} {fr idx : Nat} (hV : MV fr x σ o1) (hq1 : Cond.methodLink M.2.2.1 idx ⟨"RockingHorse$Node", "value", "()I"⟩ ∈ lw_all) (hf : fr + 1 ≤ M.2.2.2.1) (h8 : stw st ≤ 8) (hd : decode M.1 pc = .ok (.invokevirtual idx, 3))
    (kk : ∀ r1 σ1, GG X M Q (pc + 3) env (vI r1 :: st) σ1 (K r1 σ1)) : GG X M Q pc env (vA x :: st) σ (bnd o1 K) := by
  intro r σf ho
  obtain ⟨r1, σ1, e1, ho⟩ := bnd_inv ho
  obtain ⟨b, rfl, hb, C, T, ty, y, N, hC, hM, hfr, hL, hs, hi, hini, hco⟩ := hV r1 σ1 e1
  obtain ⟨hle1, hMet⟩ := hM r1 σ1 e1
  have hle2 := (kk r1 σ1 r σf ho).1
  refine ⟨hle1.tr hle2, fun hX ls H locs h0 h1 h2 hl hW hS => ?_⟩
  refine run_go (cr := rI) (r1 := r1) (rest := st) (a := #[]) hX hle1 h0 ?_ hS h1 h2 hl ho (kk r1 σ1)
  obtain ⟨w, hP⟩ := hW.P hb
  exact va_runU (x := ⟨"RockingHorse$Node", "value", "()I"⟩) (owner := "RockingHorse$Node") (As := []) (rest := st.map (cv (xY X))) ⟨hX.ex, hX.co, hX.ml, hX.ow, hX.ts⟩ (hMet (xl X) (xY X) hX.fl) (va_cwA 0 hX.ts (lw_U hq1 q587 hs hi hini hco) rfl rfl rfl (hX.ext.2.2.2.2.1 _ (List.mem_of_getElem? (i := 0) rfl)) (by decide +kernel) (frames_ok hX (by omega) hL))
    ⟨blind _ _, va_recv hX.K (hP _ (cellE_o rfl hC.2.1)) hC.1 (q0 := 0) rfl, fun U hU hw => ⟨rfl, WS_at hX hW hS hU hw⟩⟩ rfl rfl (show ls.size = M.2.1 from hl.1) rfl (lv_room (by rw [stw_cat]; exact h8)) hd (room_ok h0 hle1 hle2 h1 h2)
end node
