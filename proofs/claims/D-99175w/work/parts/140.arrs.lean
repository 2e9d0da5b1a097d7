/-! FOUNDATION 5: arrays, new cells, copies -/
section arrs
variable {β : Type} {X : Mx} {M : Mi} {pc : Nat} {Q : β → Hp → State → Prop} {env : List (Nat × LV)} {st : List LV} {σ : Hp} {o : Option (β × Hp)}
theorem cellE_100 {Y : Yx} {a : Nat} (h : (hk σ a).1 = 100) {w : Value} : cellE Y σ a w = .inl (Y.2.2.2 0, (hk σ a).2, .inl (hi σ a)) := by unfold cellE cellK; rw [h]; rfl
theorem cellE_101 {Y : Yx} {a : Nat} (h : (hk σ a).1 = 101) {w : Value} : cellE Y σ a w = .inl (Y.2.2.2 1, (hk σ a).2, .inl (hi σ a)) := by unfold cellE cellK; rw [h]; rfl
theorem cellE_102 {Y : Yx} {a : Nat} (h : (hk σ a).1 = 102) {w : Value} : cellE Y σ a w = .inl (Y.2.2.2 2, (hk σ a).2, .inl (hi σ a)) := by unfold cellE cellK; rw [h]; rfl
theorem cellE_103 {Y : Yx} {a : Nat} (h : (hk σ a).1 = 103) {w : Value} : cellE Y σ a w = .inl (Y.2.2.2 3, (hk σ a).2, .inr (.inl (hl σ a))) := by unfold cellE cellK; rw [h]; rfl
theorem cellE_104 {Y : Yx} {a : Nat} (h : (hk σ a).1 = 104) {w : Value} : cellE Y σ a w = .inl (Y.2.2.2 4, (hk σ a).2, .inr (.inr (.inr (.inr (fun j => rz Y (hr σ a j)))))) := by unfold cellE cellK; rw [h]; rfl
theorem g_iaload {x : Option Nat} {i : Int32} {K : Int32 → Option (β × Hp)} (hd : decode M.1 pc = .ok (.iaload, 1)) (kk : ∀ v, GG X M Q (pc + 1) env (vI v :: st) σ (K v)) : GG X M Q pc env (vI i :: vA x :: st) σ (lI 100 σ x i K) := by
  intro r σf ho
  obtain ⟨a, rfl, ha, hc, hin, ho⟩ := ar_inv ho
  obtain ⟨hle, g⟩ := kk _ r σf ho
  refine ⟨hle, fun hX ls H locs h0 h1 h2 hl hW hS => ?_⟩
  obtain ⟨w, hP⟩ := hW.P ha
  exact va_iald hX.ex hX.co hX.K (hP _ (cellE_100 hc)) 0 0 rfl rfl hin hd (g hX ls H locs h0 h1 h2 hl hW hS)
theorem g_baload {x : Option Nat} {i : Int32} {K : Int32 → Option (β × Hp)} (hd : decode M.1 pc = .ok (.baload, 1)) (kk : ∀ v, GG X M Q (pc + 1) env (vI v :: st) σ (K v)) : GG X M Q pc env (vI i :: vA x :: st) σ (lI 101 σ x i K) := by
  intro r σf ho
  obtain ⟨a, rfl, ha, hc, hin, ho⟩ := ar_inv ho
  obtain ⟨hle, g⟩ := kk _ r σf ho
  refine ⟨hle, fun hX ls H locs h0 h1 h2 hl hW hS => ?_⟩
  obtain ⟨w, hP⟩ := hW.P ha
  exact va_bald hX.ex hX.co hX.K (hP _ (cellE_101 hc)) 0 1 rfl rfl hin hd (g hX ls H locs h0 h1 h2 hl hW hS)
theorem g_zaload {x : Option Nat} {i : Int32} {K : Int32 → Option (β × Hp)} (hd : decode M.1 pc = .ok (.baload, 1)) (kk : ∀ v, GG X M Q (pc + 1) env (vI v :: st) σ (K v)) : GG X M Q pc env (vI i :: vA x :: st) σ (lI 102 σ x i K) := by
  intro r σf ho
  obtain ⟨a, rfl, ha, hc, hin, ho⟩ := ar_inv ho
  obtain ⟨hle, g⟩ := kk _ r σf ho
  refine ⟨hle, fun hX ls H locs h0 h1 h2 hl hW hS => ?_⟩
  obtain ⟨w, hP⟩ := hW.P ha
  exact va_zald hX.ex hX.co hX.K (hP _ (cellE_102 hc)) 0 2 rfl rfl hin hd (g hX ls H locs h0 h1 h2 hl hW hS)
theorem g_laload {x : Option Nat} {i : Int32} {K : Int64 → Option (β × Hp)} (hd : decode M.1 pc = .ok (.laload, 1)) (kk : ∀ v, GG X M Q (pc + 1) env (vL v :: st) σ (K v)) : GG X M Q pc env (vI i :: vA x :: st) σ (lL σ x i K) := by
  intro r σf ho
  obtain ⟨a, rfl, ha, hc, hin, ho⟩ := ar_inv ho
  obtain ⟨hle, g⟩ := kk _ r σf ho
  refine ⟨hle, fun hX ls H locs h0 h1 h2 hl hW hS => ?_⟩
  obtain ⟨w, hP⟩ := hW.P ha
  exact va_lald hX.ex hX.co hX.K (hP _ (cellE_103 hc)) 0 3 rfl rfl hin hd (g hX ls H locs h0 h1 h2 hl hW hS)
theorem g_aaload {x : Option Nat} {i : Int32} {K : Option Nat → Option (β × Hp)} (hd : decode M.1 pc = .ok (.aaload, 1)) (kk : ∀ v, GG X M Q (pc + 1) env (vA v :: st) σ (K v)) : GG X M Q pc env (vI i :: vA x :: st) σ (lR σ x i K) := by
  intro r σf ho
  obtain ⟨a, rfl, ha, hc, hin, ho⟩ := ar_inv ho
  obtain ⟨hle, g⟩ := kk _ r σf ho
  refine ⟨hle, fun hX ls H locs h0 h1 h2 hl hW hS => ?_⟩
  obtain ⟨w, hP⟩ := hW.P ha
  exact va_aldq hX.ex hX.co hX.K (hP _ (cellE_104 hc)) 0 4 rfl rfl hin hd (g hX ls H locs h0 h1 h2 hl hW hS)
theorem at_inl {Y : Yx} {a : Nat} {H1 : Heap} {cA : ClassId} {x : vp_A} {τ : Hp} (he : ∀ {w : Value}, cellE Y τ a w = .inl (cA, x)) (h : H1[Y.1 + a]? = some (vp_cell cA x)) : ∃ w, va_at Y.2.1 clsL (Y.1 + a, cellE Y τ a w) H1 := by
  refine ⟨.null, ?_⟩
  rw [he]
  exact h
theorem row_wI {a j : Nat} {v : Int32} : (fun q => Value.int (hi (wI σ a j v) a q)) = updV (fun q => .int (hi σ a q)) j (.int v) := by
  funext q
  show Value.int (up2 _ a j v a q) = _
  rw [up2_self]
  unfold updV
  by_cases h : q = j
  · rw [if_pos h, if_pos h]
  · rw [if_neg h, if_neg h]; rfl
theorem row_wL {a j : Nat} {v : Int64} : (fun q => Value.long (hl (wL σ a j v) a q)) = updV (fun q => .long (hl σ a q)) j (.long v) := by
  funext q
  show Value.long (up2 _ a j v a q) = _
  rw [up2_self]
  unfold updV
  by_cases h : q = j
  · rw [if_pos h, if_pos h]
  · rw [if_neg h, if_neg h]; rfl
theorem row_wR {Y : Yx} {a j : Nat} {v : Option Nat} : (fun q => va_rf (rz Y (hr (wR σ a j v) a q))) = updV (fun q => va_rf (rz Y (hr σ a q))) j (va_rf (rz Y v)) := by
  funext q
  show va_rf (rz Y (up2 _ a j v a q)) = _
  rw [up2_self]
  unfold updV
  by_cases h : q = j
  · rw [if_pos h, if_pos h]
  · rw [if_neg h, if_neg h]; rfl
theorem nar_b (v : Int32) : narrow .byte (.int v) = .int (vp_nar .byte v) := rfl
theorem nar_z (v : Int32) : narrow .boolean (.int v) = .int (vp_nar .boolean v) := rfl
theorem g_iastore {x : Option Nat} {i : Int32} {v : Int32} {K : Hp → Option (β × Hp)} (hd : decode M.1 pc = .ok (.iastore, 1)) (kk : ∀ τ, GG X M Q (pc + 1) env st τ (K τ)) : GG X M Q pc env (vI v :: vI i :: vA x :: st) σ (sI σ x i v K) := by
  intro r σf ho
  obtain ⟨a, rfl, ha, hc, hin, ho⟩ := ar_inv ho
  obtain ⟨hle, g⟩ := kk _ r σf ho
  refine ⟨hle, fun hX ls H locs h0 h1 h2 hl hW hS => ?_⟩
  obtain ⟨w0, hat⟩ := hW.2 a ha
  rw [cellE_100 hc] at hat
  refine W.iast hX.ex hX.co hat ((hX.K.2 0 _ rfl).1 _ _) (fun q => by cases q) (by show ¬ (i < 0 ∨ (arrV _ _ _).slots.size ≤ _); rw [arrV_size]; exact hin) rfl rfl hd fun H1 f1 f2 f3 => ?_
  refine g hX ls H1 _ h0 h1 h2 hl (hW.set rfl (fun b hb => cellE_wI hb) (at_inl (cellE_100 (σ := wI σ a i.toNatClampNeg v) hc) ?_) f2 f3) (hS_put hS f2 f3)
  rw [f1]
  dsimp only
  rw [vp_cell_i, vp_cell_i, arrV_store]
  congr 2
  exact row_wI.symm
theorem g_bastore {x : Option Nat} {i : Int32} {v : Int32} {K : Hp → Option (β × Hp)} (hd : decode M.1 pc = .ok (.bastore, 1)) (kk : ∀ τ, GG X M Q (pc + 1) env st τ (K τ)) : GG X M Q pc env (vI v :: vI i :: vA x :: st) σ (sB σ x i v K) := by
  intro r σf ho
  obtain ⟨a, rfl, ha, hc, hin, ho⟩ := ar_inv ho
  obtain ⟨hle, g⟩ := kk _ r σf ho
  refine ⟨hle, fun hX ls H locs h0 h1 h2 hl hW hS => ?_⟩
  obtain ⟨w0, hat⟩ := hW.2 a ha
  rw [cellE_101 hc] at hat
  refine W.bast hX.ex hX.co hat ((hX.K.2 1 _ rfl).1 _ _) (fun q => by cases q) (by show ¬ (i < 0 ∨ (arrV _ _ _).slots.size ≤ _); rw [arrV_size]; exact hin) rfl rfl hd fun H1 f1 f2 f3 => ?_
  refine g hX ls H1 _ h0 h1 h2 hl (hW.set rfl (fun b hb => cellE_wI hb) (at_inl (cellE_101 (σ := wI σ a i.toNatClampNeg (vp_nar .byte v)) hc) ?_) f2 f3) (hS_put hS f2 f3)
  rw [f1]
  dsimp only
  rw [vp_cell_i, vp_cell_i, arrV_store, nar_b]
  congr 2
  exact row_wI.symm
theorem g_zastore {x : Option Nat} {i : Int32} {v : Int32} {K : Hp → Option (β × Hp)} (hd : decode M.1 pc = .ok (.bastore, 1)) (kk : ∀ τ, GG X M Q (pc + 1) env st τ (K τ)) : GG X M Q pc env (vI v :: vI i :: vA x :: st) σ (sZ σ x i v K) := by
  intro r σf ho
  obtain ⟨a, rfl, ha, hc, hin, ho⟩ := ar_inv ho
  obtain ⟨hle, g⟩ := kk _ r σf ho
  refine ⟨hle, fun hX ls H locs h0 h1 h2 hl hW hS => ?_⟩
  obtain ⟨w0, hat⟩ := hW.2 a ha
  rw [cellE_102 hc] at hat
  refine W.zast hX.ex hX.co hat ((hX.K.2 2 _ rfl).1 _ _) (fun q => by cases q) (by show ¬ (i < 0 ∨ (arrV _ _ _).slots.size ≤ _); rw [arrV_size]; exact hin) rfl rfl hd fun H1 f1 f2 f3 => ?_
  refine g hX ls H1 _ h0 h1 h2 hl (hW.set rfl (fun b hb => cellE_wI hb) (at_inl (cellE_102 (σ := wI σ a i.toNatClampNeg (vp_nar .boolean v)) hc) ?_) f2 f3) (hS_put hS f2 f3)
  rw [f1]
  dsimp only
  rw [vp_cell_i, vp_cell_i, arrV_store, nar_z]
  congr 2
  exact row_wI.symm
theorem g_lastore {x : Option Nat} {i : Int32} {v : Int64} {K : Hp → Option (β × Hp)} (hd : decode M.1 pc = .ok (.lastore, 1)) (kk : ∀ τ, GG X M Q (pc + 1) env st τ (K τ)) : GG X M Q pc env (vL v :: vI i :: vA x :: st) σ (sL σ x i v K) := by
  intro r σf ho
  obtain ⟨a, rfl, ha, hc, hin, ho⟩ := ar_inv ho
  obtain ⟨hle, g⟩ := kk _ r σf ho
  refine ⟨hle, fun hX ls H locs h0 h1 h2 hl hW hS => ?_⟩
  obtain ⟨w0, hat⟩ := hW.2 a ha
  rw [cellE_103 hc] at hat
  refine W.last hX.ex hX.co hat ((hX.K.2 3 _ rfl).1 _ _) (fun q => by cases q) (by show ¬ (i < 0 ∨ (arrV _ _ _).slots.size ≤ _); rw [arrV_size]; exact hin) rfl rfl hd fun H1 f1 f2 f3 => ?_
  refine g hX ls H1 _ h0 h1 h2 hl (hW.set rfl (fun b hb => cellE_wL hb) (at_inl (cellE_103 (σ := wL σ a i.toNatClampNeg v) hc) ?_) f2 f3) (hS_put hS f2 f3)
  rw [f1]
  dsimp only
  rw [vp_cell_l, vp_cell_l, arrV_store]
  congr 2
  exact row_wL.symm
theorem g_aastore {x v : Option Nat} {i : Int32} {K : Hp → Option (β × Hp)} (hd : decode M.1 pc = .ok (.aastore, 1)) (kk : ∀ τ, GG X M Q (pc + 1) env st τ (K τ)) : GG X M Q pc env (vA v :: vI i :: vA x :: st) σ (sR σ x i v K) := by
  intro r σf ho
  cases v with
  | none =>
    have ho : ar 104 σ x i (fun a j => K (wR σ a j none)) = some (r, σf) := ho
    obtain ⟨a, rfl, ha, hc, hin, ho⟩ := ar_inv ho
    obtain ⟨hle, g⟩ := kk _ r σf ho
    refine ⟨hle, fun hX ls H locs h0 h1 h2 hl hW hS => ?_⟩
    obtain ⟨w0, hat⟩ := hW.2 a ha
    rw [cellE_104 hc] at hat
    refine va_WaastN (C := RX2) hX.ex hX.co hat ((hX.K.2 4 _ rfl).1 _ _) (fun q => by cases q) (by show ¬ (i < 0 ∨ (arrV _ _ _).slots.size ≤ _); rw [arrV_size]; exact hin) rfl rfl hd fun H1 f1 f2 f3 => ?_
    refine g hX ls H1 _ h0 h1 h2 hl (hW.set rfl (fun b hb => cellE_wR hb) (at_inl (cellE_104 (σ := wR σ a i.toNatClampNeg none) hc) ?_) f2 f3) (hS_put hS f2 f3)
    rw [f1]
    dsimp only
    rw [vp_cell_q, vp_cell_q, arrV_store]
    congr 2
    exact (row_wR (Y := xY X) (v := none)).symm
  | some b =>
    have ho : (if b < hn σ ∧ (hk σ b).1 = 1 then ar 104 σ x i (fun a j => K (wR σ a j (some b))) else none) = some (r, σf) := ho
    by_cases hb : b < hn σ ∧ (hk σ b).1 = 1
    · rw [if_pos hb] at ho
      obtain ⟨a, rfl, ha, hc, hin, ho⟩ := ar_inv ho
      obtain ⟨hle, g⟩ := kk _ r σf ho
      refine ⟨hle, fun hX ls H locs h0 h1 h2 hl hW hS => ?_⟩
      obtain ⟨w0, hat⟩ := hW.2 a ha
      rw [cellE_104 hc] at hat
      obtain ⟨w1, hatb⟩ := hW.2 b hb.1
      rw [cellE_o hb.2 (by decide)] at hatb
      obtain ⟨r', hr', cellV, g1, g2, g3, -⟩ := hatb
      have hcls := (hX.K.1 1 _ (show clsL[1]? = some _ from rfl)).2
      obtain ⟨kA, comp, k1, k2, k3, -⟩ := (hX.K.2 4 _ rfl).2
      have hcomp : comp = (xY X).2.1.1 1 := Option.some.inj (k3.symm.trans hcls.1)
      subst hcomp
      obtain ⟨kC, hkC, -⟩ := hcls.2
      have hlt : i.toNatClampNeg < (hk σ a).2 := Nat.not_le.mp fun q => hin (Or.inr q)
      refine W.aast hX.ex hX.co hat (fun q h => by cases h) (fun h => by cases h) k1 k2 rfl hkC ⟨fun q => hin (Or.inl q), by show _ < (arrV _ _ _).slots.size; rw [arrV_size]; exact hlt⟩ g1 (fun q h => by rw [g3] at h; cases h) (by rw [g2]; exact hkC) (by rw [g2]; exact va_assign hcls) rfl rfl hd fun H1 f1 f2 f3 => ?_
      refine g hX ls H1 _ h0 h1 h2 hl (hW.set rfl (fun b hb => cellE_wR hb) (at_inl (cellE_104 (σ := wR σ a i.toNatClampNeg (some b)) hc) ?_) f2 f3) (hS_put hS f2 f3)
      rw [f1]
      dsimp only
      rw [vp_cell_q, vp_cell_q, arrV_store]
      congr 2
      exact (row_wR (Y := xY X) (v := some b)).symm
    · rw [if_neg hb] at ho; cases ho
theorem nw_hk {k n b : Nat} (h : b < hn σ) : hk (nw σ k n) b = hk σ b := if_neg (Nat.ne_of_lt h)
theorem nw_old {Y : Yx} {k n b : Nat} (h : b < hn σ) (w : Value) : cellE Y (nw σ k n) b w = cellE Y σ b w := by
  have hb : ¬ b = hn σ := Nat.ne_of_lt h
  refine cellE_eq (σ := σ) (τ := nw σ k n) (b := b) (if_neg hb) ?_ ?_ ?_ w <;> (funext j; exact if_neg hb)
theorem nw_new {k n : Nat} : hk (nw σ k n) (hn σ) = (k, n) := if_pos rfl
theorem nw_Le {k n : Nat} : Le σ (nw σ k n) := ⟨Nat.le_succ _, Nat.le_add_right _ _⟩
theorem Wd.new {Y : Yx} {k n : Nat} {H H1 : Heap} (h : Wd Y σ H) (hz : H1.size = H.size + 1) (hq : ∀ q, q < H.size → H1[q]? = H[q]?) (ha : ∃ w, va_at Y.2.1 clsL (Y.1 + hn σ, cellE Y (nw σ k n) (hn σ) w) H1) : Wd Y (nw σ k n) H1 := by
  refine ⟨by rw [hz, h.1]; rfl, fun b hb => ?_⟩
  have hb : b < hn σ + 1 := hb
  by_cases hbn : b = hn σ
  · subst hbn
    exact ha
  · have hb2 : b < hn σ := by omega
    obtain ⟨w, hw⟩ := h.2 b hb2
    refine ⟨w, ?_⟩
    rw [nw_old hb2]
    refine hw.kept (hq _ ?_)
    show Y.1 + b < H.size
    rw [h.1]
    omega
theorem hS_new {Y : Yx} {H0 H H1 : Heap} {locs : List Loc} (h : va_S (fun q => Y.1 ≤ q) H0 H locs) (hz : H1.size = H.size + 1) (hq : ∀ q, q < H.size → H1[q]? = H[q]?) : va_S (fun q => Y.1 ≤ q) H0 H1 locs :=
  ⟨Nat.le_trans h.1 (by omega), fun x h1 h2 => (hq x (Nat.lt_of_lt_of_le h1 h.1)).trans (h.2.1 x h1 h2), h.2.2⟩
/-- room for a new cell -/
theorem new_room {σf : Hp} {k n : Nat} (hle : Le (nw σ k n) σf) (h0 : Le (x0 X) σ) (h1 : hn σf ≤ hn (x0 X) + (xR X).cells) (h2 : hu σf ≤ hu (x0 X) + (xR X).slots) : hn σ - hn (x0 X) + 1 ≤ (xR X).cells ∧ hu σ - hu (x0 X) + n ≤ (xR X).slots ∧ hn (nw σ k n) - hn (x0 X) = hn σ - hn (x0 X) + 1 ∧ hu (nw σ k n) - hu (x0 X) = hu σ - hu (x0 X) + n := by
  obtain ⟨a1, a2⟩ := hle
  obtain ⟨b1, b2⟩ := h0
  have e1 : hn (nw σ k n) = hn σ + 1 := rfl
  have e2 : hu (nw σ k n) = hu σ + n := rfl
  rw [e1] at a1 ⊢
  rw [e2] at a2 ⊢
  refine ⟨by omega, by omega, by omega, by omega⟩
theorem flds_new {Y : Yx} {c n k : Nat} (ty : Nat → FieldType) (hty : ∀ j, j < cN c → tyc (ty j) (cT c j) = true) (hj : k < cN c) : defaultValue (ty k) = vp_V (flds Y (nw σ c n) c (hn σ) .null) k := by
  unfold vp_V
  rw [List.getD_eq_getElem?_getD, flds_at hj]
  show _ = fldv _ _ _ _ _ _
  unfold fldv
  have h := hty k hj
  by_cases h1 : cT c k = 1
  · rw [if_pos h1]
    rw [h1] at h
    have e : hr (nw σ c n) (hn σ) k = none := if_pos rfl
    rw [e]
    rcases tyc_r h with ⟨C, h⟩ | ⟨t, h⟩ <;> rw [h] <;> rfl
  · rw [if_neg h1]
    by_cases h9 : cT c k = 9
    · rw [if_pos h9]
      rw [h9] at h
      cases hh : ty k <;> rw [hh] at h <;> first | rfl | cases h
    rw [if_neg h9]
    have e : hi (nw σ c n) (hn σ) k = 0 := if_pos rfl
    rw [e]
    rcases tyc_i h ⟨h1, h9⟩ with ⟨h, -⟩ | ⟨h, -⟩ | ⟨h, -⟩ <;> rw [h] <;> rfl
theorem g_new {ci n idx : Nat} {C : String} {T : u_T} {ty : Nat → FieldType} {K : Option Nat → Hp → Option (β × Hp)} (hC : CO ci C T ty) (hty : ∀ j, j < cN ci → tyc (ty j) (cT ci j) = true) (hq : Cond.classLink M.2.2.1 idx C ∈ lw_all) (hq2 : Cond.instantiable C n ∈ lw_all) (hq3 : Cond.initialized C ∈ lw_all) (hd : decode M.1 pc = .ok (.new idx, 3)) (kk : ∀ a τ, GG X M Q (pc + 3) env (vA a :: st) τ (K a τ)) : GG X M Q pc env st σ (nO ci n σ K) := by
  intro r σf ho
  obtain ⟨hle, g⟩ := kk _ _ r σf ho
  refine ⟨nw_Le.tr hle, fun hX ls H locs h0 h1 h2 hl hW hS => ?_⟩
  obtain ⟨r1, r2, r3, r4⟩ := new_room (X := X) hle h0 h1 h2
  obtain ⟨hcl, hci, hin, hpd, -, -⟩ := hC
  have hKn := hX.K.1 ci _ hcl
  refine W.newcK hX.ex hX.co hX.ow (hX.ts _ hq) (hX.ts _ hq2) (hX.ts _ hq3) rfl hd r1 r2 hKn.2.1 hW.1 fun H1 kC hkC e1 z1 o1 => ?_
  rw [← r3, ← r4]
  rw [← hW.1] at z1 o1
  refine g hX ls H1 locs (h0.tr nw_Le) h1 h2 hl (hW.new z1 o1 ?_) (hS_new hS z1 o1)
  refine ⟨.null, ?_⟩
  rw [cellE_o (by rw [nw_new]) hci]
  exact ⟨_, hcl, (u_born ty hX.ts hin hKn hkC e1 hpd).to (fun j hj => flds_new ty hty hj)⟩
theorem g_newarray {t : Nat} {at_ : ArrayType} {fty : FieldType} {n : Int32} {K : Option Nat → Hp → Option (β × Hp)} (hty : newarray.typeOf at_ = fty) (hq : Cond.arrayClass fty ∈ lw_all) (htt : (tysL (xY X))[t - 100]? = some ((xY X).2.2.2 (t - 100), fty)) (hz : ∀ (Y : Yx) (τ : Hp) (a m : Nat), hk τ a = (t, m) → hi τ a = (fun _ => 0) → hl τ a = (fun _ => 0) → ∃ x, (∀ {w : Value}, cellE Y τ a w = .inl (Y.2.2.2 (t - 100), x)) ∧ ∀ cA, vp_cell cA x = arrV cA m (fun _ => defaultValue fty)) (hcb : componentBytes fty ≤ 8) (hd : decode M.1 pc = .ok (.newarray at_, 2)) (kk : ∀ a τ, GG X M Q (pc + 2) env (vA a :: st) τ (K a τ)) : GG X M Q pc env (vI n :: st) σ (nA t σ n K) := by
  intro r σf ho
  unfold nA at ho
  by_cases hc : ¬ n < 0 ∧ n.toNatClampNeg ≤ 65536
  · rw [if_pos hc] at ho
    obtain ⟨hle, g⟩ := kk _ _ r σf ho
    refine ⟨nw_Le.tr hle, fun hX ls H locs h0 h1 h2 hl hW hS => ?_⟩
    obtain ⟨r1, r2, r3, r4⟩ := new_room (X := X) hle h0 h1 h2
    subst hty
    have hb : n.toNatClampNeg * componentBytes (newarray.typeOf at_) ≤ 536870912 := Nat.le_trans (Nat.mul_le_mul hc.2 hcb) (by decide)
    refine va_newaK hX.ex hX.co (hX.ts _ hq) rfl hd rfl hc.1 rfl hb r1 r2 hW.1 fun H1 cA e1 z1 o1 hAr hNm => ?_
    rw [← r3, ← r4]
    rw [← hW.1] at z1 o1
    refine g hX ls H1 locs (h0.tr nw_Le) h1 h2 hl (hW.new z1 o1 ?_) (hS_new hS z1 o1)
    obtain ⟨x, x1, x2⟩ := hz (xY X) (nw σ t n.toNatClampNeg) (hn σ) n.toNatClampNeg nw_new (funext fun j => if_pos rfl) (funext fun j => if_pos rfl)
    refine ⟨.null, ?_⟩
    rw [x1]
    show H1[_]? = some (vp_cell _ _)
    rw [x2, e1]
    have hcA : (xY X).2.2.2 (t - 100) = cA := by
      have h5 := (hX.K.2 _ _ htt).2
      have : (xs X).vm.findClass ("[" ++ (newarray.typeOf at_).toString) = some ((xY X).2.2.2 (t - 100)) := by
        cases at_ <;> exact h5
      exact Option.some.inj (this.symm.trans hNm)
    rw [hcA]
  · rw [if_neg hc] at ho; cases ho

theorem g_newarray_int {n : Int32} {K : Option Nat → Hp → Option (β × Hp)} (hd : decode M.1 pc = .ok (.newarray .int, 2)) (kk : ∀ a τ, GG X M Q (pc + 2) env (vA a :: st) τ (K a τ)) : GG X M Q pc env (vI n :: st) σ (nA 100 σ n K) := by
  refine g_newarray (t := 100) (fty := .int) rfl q168 rfl (fun Y τ a m h1 h2 h3 => ?_) (by decide) hd kk
  refine ⟨_, fun {w} => cellE_100 (by rw [h1]), fun cA => ?_⟩
  rw [h1, h2]
  rfl
theorem g_newarray_byte {n : Int32} {K : Option Nat → Hp → Option (β × Hp)} (hd : decode M.1 pc = .ok (.newarray .byte, 2)) (kk : ∀ a τ, GG X M Q (pc + 2) env (vA a :: st) τ (K a τ)) : GG X M Q pc env (vI n :: st) σ (nA 101 σ n K) := by
  refine g_newarray (t := 101) (fty := .byte) rfl q471 rfl (fun Y τ a m h1 h2 h3 => ?_) (by decide) hd kk
  refine ⟨_, fun {w} => cellE_101 (by rw [h1]), fun cA => ?_⟩
  rw [h1, h2]
  rfl
theorem g_newarray_boolean {n : Int32} {K : Option Nat → Hp → Option (β × Hp)} (hd : decode M.1 pc = .ok (.newarray .boolean, 2)) (kk : ∀ a τ, GG X M Q (pc + 2) env (vA a :: st) τ (K a τ)) : GG X M Q pc env (vI n :: st) σ (nA 102 σ n K) := by
  refine g_newarray (t := 102) (fty := .boolean) rfl q1210 rfl (fun Y τ a m h1 h2 h3 => ?_) (by decide) hd kk
  refine ⟨_, fun {w} => cellE_102 (by rw [h1]), fun cA => ?_⟩
  rw [h1, h2]
  rfl
theorem g_newarray_long {n : Int32} {K : Option Nat → Hp → Option (β × Hp)} (hd : decode M.1 pc = .ok (.newarray .long, 2)) (kk : ∀ a τ, GG X M Q (pc + 2) env (vA a :: st) τ (K a τ)) : GG X M Q pc env (vI n :: st) σ (nA 103 σ n K) := by
  refine g_newarray (t := 103) (fty := .long) rfl q337 rfl (fun Y τ a m h1 h2 h3 => ?_) (by decide) hd kk
  refine ⟨_, fun {w} => cellE_103 (by rw [h1]), fun cA => ?_⟩
  rw [h1, h3]
  rfl
end arrs
