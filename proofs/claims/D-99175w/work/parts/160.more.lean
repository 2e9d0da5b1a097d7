/-! FOUNDATION 7: Math, arraycopy, arrays of Horses -/
def imax (x y : Int32) : Int32 := if x < y then y else x
def imin (x y : Int32) : Int32 := if y < x then y else x
def iabs (x : Int32) : Int32 := if 0 ≤ x then x else 0 - x
def lmax (x y : Int64) : Int64 := if y < x then x else y
def lmin (x y : Int64) : Int64 := if y < x then y else x
section more
variable {β : Type} {X : Mx} {M : Mi} {pc : Nat} {Q : β → Hp → State → Prop} {env : List (Nat × LV)} {st : List LV} {σ : Hp} {o : Option (β × Hp)}
theorem cap_ok {σf : Hp} (hle : Le σ σf) (h1 : hn σf ≤ hn (x0 X) + (xR X).cells) (h2 : hu σf ≤ hu (x0 X) + (xR X).slots) : hn σ - hn (x0 X) ≤ (xR X).cells ∧ hu σ - hu (x0 X) ≤ (xR X).slots := by
  have := hle.1; have := hle.2
  constructor <;> omega
theorem g_mmax {x y : Int32} {idx : Nat} (hq1 : Cond.methodLink M.2.2.1 idx Lib.Math.max.name ∈ lw_all) (hf : 1 ≤ M.2.2.2.1) (h8 : stw st ≤ 8) (hd : decode M.1 pc = .ok (.invokestatic idx, 3)) (k : GG X M Q (pc + 3) env (vI (imax x y) :: st) σ o) : GG X M Q pc env (vI y :: vI x :: st) σ o := by
  intro r σf ho
  obtain ⟨hle, g⟩ := k r σf ho
  refine ⟨hle, fun hX ls H locs h0 h1 h2 hl hW hS => ?_⟩
  have e1 := hX.frm
  have e2 := hX.lo
  have e3 := cap_ok (X := X) hle h1 h2
  exact va_mmax hX.ex hX.co (hX.ml.trans hl.1.symm) hX.ow (hX.ts _ hq1) (hX.ts _ q402) (hX.ts _ q110) (hX.ts _ q403) (by omega) (by rw [stw_cat]; omega) e3.1 e3.2 hd (g hX ls H locs h0 h1 h2 hl hW hS)
theorem g_mmin {x y : Int32} {idx : Nat} (hq1 : Cond.methodLink M.2.2.1 idx Lib.Math.min.name ∈ lw_all) (hf : 1 ≤ M.2.2.2.1) (h8 : stw st ≤ 8) (hd : decode M.1 pc = .ok (.invokestatic idx, 3)) (k : GG X M Q (pc + 3) env (vI (imin x y) :: st) σ o) : GG X M Q pc env (vI y :: vI x :: st) σ o := by
  intro r σf ho
  obtain ⟨hle, g⟩ := k r σf ho
  refine ⟨hle, fun hX ls H locs h0 h1 h2 hl hW hS => ?_⟩
  have e1 := hX.frm
  have e2 := hX.lo
  have e3 := cap_ok (X := X) hle h1 h2
  exact va_mmin hX.ex hX.co (hX.ml.trans hl.1.symm) hX.ow (hX.ts _ hq1) (hX.ts _ q358) (hX.ts _ q110) (hX.ts _ q359) (by omega) (by rw [stw_cat]; omega) e3.1 e3.2 hd (g hX ls H locs h0 h1 h2 hl hW hS)
theorem g_mabs {x : Int32} {idx : Nat} (hq1 : Cond.methodLink M.2.2.1 idx Lib.Math.abs.name ∈ lw_all) (hf : 1 ≤ M.2.2.2.1) (h8 : stw st ≤ 8) (hd : decode M.1 pc = .ok (.invokestatic idx, 3)) (k : GG X M Q (pc + 3) env (vI (iabs x) :: st) σ o) : GG X M Q pc env (vI x :: st) σ o := by
  intro r σf ho
  obtain ⟨hle, g⟩ := k r σf ho
  refine ⟨hle, fun hX ls H locs h0 h1 h2 hl hW hS => ?_⟩
  have e1 := hX.frm
  have e2 := hX.lo
  have e3 := cap_ok (X := X) hle h1 h2
  exact va_mabs hX.ex hX.co (hX.ml.trans hl.1.symm) hX.ow (hX.ts _ hq1) (hX.ts _ q681) (hX.ts _ q110) (hX.ts _ q682) (by omega) (by rw [stw_cat]; omega) e3.1 e3.2 hd (g hX ls H locs h0 h1 h2 hl hW hS)
theorem g_mmax_long {x y : Int64} {idx : Nat} (hq1 : Cond.methodLink M.2.2.1 idx Lib.MathLoose.max_long.x ∈ lw_all) (hf : 1 ≤ M.2.2.2.1) (h8 : stw st ≤ 8) (hd : decode M.1 pc = .ok (.invokestatic idx, 3)) (k : GG X M Q (pc + 3) env (vL (lmax x y) :: st) σ o) : GG X M Q pc env (vL y :: vL x :: st) σ o := by
  intro r σf ho
  obtain ⟨hle, g⟩ := k r σf ho
  refine ⟨hle, fun hX ls H locs h0 h1 h2 hl hW hS => ?_⟩
  have e1 := hX.frm
  have e2 := hX.lo
  have e3 := cap_ok (X := X) hle h1 h2
  exact va_mmax_long hX.ex hX.co (hX.ml.trans hl.1.symm) hX.ow (hX.ts _ hq1) (hX.ts _ q910) (hX.ts _ q110) (hX.ts _ q911) (by omega) (by rw [stw_cat]; omega) e3.1 e3.2 hd (g hX ls H locs h0 h1 h2 hl hW hS)
theorem g_mmin_long {x y : Int64} {idx : Nat} (hq1 : Cond.methodLink M.2.2.1 idx Lib.MathLoose.min_long.x ∈ lw_all) (hf : 1 ≤ M.2.2.2.1) (h8 : stw st ≤ 8) (hd : decode M.1 pc = .ok (.invokestatic idx, 3)) (k : GG X M Q (pc + 3) env (vL (lmin x y) :: st) σ o) : GG X M Q pc env (vL y :: vL x :: st) σ o := by
  intro r σf ho
  obtain ⟨hle, g⟩ := k r σf ho
  refine ⟨hle, fun hX ls H locs h0 h1 h2 hl hW hS => ?_⟩
  have e1 := hX.frm
  have e2 := hX.lo
  have e3 := cap_ok (X := X) hle h1 h2
  exact va_mmin_long hX.ex hX.co (hX.ml.trans hl.1.symm) hX.ow (hX.ts _ hq1) (hX.ts _ q913) (hX.ts _ q110) (hX.ts _ q914) (by omega) (by rw [stw_cat]; omega) e3.1 e3.2 hd (g hX ls H locs h0 h1 h2 hl hW hS)
/-- ints copied from array to array -/
def cpA {γ : Type} (σ : Hp) (x : Option Nat) (i : Int32) (y : Option Nat) (j n : Int32) (K : Hp → Option γ) : Option γ := match x, y with
  | some a, some b => if ((a < hn σ ∧ (hk σ a).1 = 100) ∧ (b < hn σ ∧ (hk σ b).1 = 100)) ∧ (¬ i < 0 ∧ ¬ j < 0 ∧ ¬ n < 0) ∧ i.toNatClampNeg + n.toNatClampNeg ≤ (hk σ a).2 ∧ j.toNatClampNeg + n.toNatClampNeg ≤ (hk σ b).2 then K (cpI σ a i.toNatClampNeg b j.toNatClampNeg n.toNatClampNeg) else none
  | _, _ => none
theorem cpA_inv {γ : Type} {x y : Option Nat} {i j n : Int32} {K : Hp → Option γ} {r : γ} (h : cpA σ x i y j n K = some r) : ∃ a b, x = some a ∧ y = some b ∧ (((a < hn σ ∧ (hk σ a).1 = 100) ∧ (b < hn σ ∧ (hk σ b).1 = 100)) ∧ (¬ i < 0 ∧ ¬ j < 0 ∧ ¬ n < 0) ∧ i.toNatClampNeg + n.toNatClampNeg ≤ (hk σ a).2 ∧ j.toNatClampNeg + n.toNatClampNeg ≤ (hk σ b).2) ∧ K (cpI σ a i.toNatClampNeg b j.toNatClampNeg n.toNatClampNeg) = some r := by
  cases x with
  | none => cases h
  | some a =>
    cases y with
    | none => cases h
    | some b =>
      have h : (if ((a < hn σ ∧ (hk σ a).1 = 100) ∧ (b < hn σ ∧ (hk σ b).1 = 100)) ∧ (¬ i < 0 ∧ ¬ j < 0 ∧ ¬ n < 0) ∧ i.toNatClampNeg + n.toNatClampNeg ≤ (hk σ a).2 ∧ j.toNatClampNeg + n.toNatClampNeg ≤ (hk σ b).2 then K (cpI σ a i.toNatClampNeg b j.toNatClampNeg n.toNatClampNeg) else none) = some r := h
      split at h
      · next hc => exact ⟨a, b, rfl, rfl, hc, h⟩
      · cases h
theorem nn_int {z : Int32} (hz : ¬ z < 0) : z.toInt = (z.toNatClampNeg : Int) := by
  have hz0 : (0 : Int) ≤ z.toInt := by
    have := Int32.not_lt.mp hz
    simpa using Int32.le_iff_toInt_le.mp this
  show z.toInt = ((z.toInt.toNat : Nat) : Int)
  omega
theorem cellE_cp {Y : Yx} {a i b j n c : Nat} (h : c ≠ b) (w : Value) : cellE Y (cpI σ a i b j n) c w = cellE Y σ c w := cellE_eq (σ := σ) (τ := cpI σ a i b j n) (b := c) rfl (funext fun q => if_neg h) rfl rfl w
theorem g_arraycopy {x y : Option Nat} {i j n : Int32} {idx : Nat} {K : Hp → Option (β × Hp)} (hq1 : Cond.methodLink M.2.2.1 idx arraycopyName ∈ lw_all) (hf : 1 ≤ M.2.2.2.1) (h8 : stw st ≤ 8) (hd : decode M.1 pc = .ok (.invokestatic idx, 3)) (kk : ∀ τ, GG X M Q (pc + 3) env st τ (K τ)) : GG X M Q pc env (vI n :: vI j :: vA y :: vI i :: vA x :: st) σ (cpA σ x i y j n K) := by
  intro r σf ho
  obtain ⟨a, b, rfl, rfl, ⟨⟨⟨ha, hka⟩, ⟨hb, hkb⟩⟩, ⟨hi, hj, hn0⟩, hla, hlb⟩, ho⟩ := cpA_inv ho
  obtain ⟨hle, g⟩ := kk _ r σf ho
  refine ⟨hle, fun hX ls H locs h0 h1 h2 hl hW hS => ?_⟩
  have e1 := hX.frm
  have e2 := hX.lo
  obtain ⟨w0, hca⟩ := hW.2 a ha
  rw [cellE_100 hka] at hca
  obtain ⟨w1, hcb⟩ := hW.2 b hb
  rw [cellE_100 hkb] at hcb
  have hnf : nativeFrameWords "java/lang/System" "arraycopy" 5 ≤ 40 := by decide
  intro T hT XX
  obtain ⟨-, k0, hk0, cm0, hkk0⟩ := (hX.K.2 0 _ rfl).1 (hk σ a).2 (fun q => .int (Jvm.Pilot.CRockingHorseLaw_law_r1955_07140d.hi σ a q))
  obtain ⟨-, k1, hk1, cm1, hkk1⟩ := (hX.K.2 0 _ rfl).1 (hk σ b).2 (fun q => .int (Jvm.Pilot.CRockingHorseLaw_law_r1955_07140d.hi σ b q))
  obtain ⟨vm', X', step⟩ := XX.arraycopy hX.ex hX.ow (hX.ts _ hq1) (hX.ts _ q634) (hX.ts _ q633) (hX.ts _ q126) (src := (xY X).1 + a) (dst := (xY X).1 + b) (cs := vp_cell ((xY X).2.2.2 0) ((hk σ a).2, .inl (Jvm.Pilot.CRockingHorseLaw_law_r1955_07140d.hi σ a))) (cd := vp_cell ((xY X).2.2.2 0) ((hk σ b).2, .inl (Jvm.Pilot.CRockingHorseLaw_law_r1955_07140d.hi σ b))) (srcPos := i) (destPos := j) (n := n) (by rw [hT]; exact hca) (by rw [hT]; exact hcb)
    (fun _ h => by cases h) (fun _ h => by cases h) (fun h => by cases h) (fun h => by cases h) hk0 hk1 hkk0 hkk1 (by simp [refKind]) hi hj hn0
    (by rw [nn_int hi, nn_int hn0]; show ¬ _ > ((arrV _ (hk σ a).2 (fun q => .int (Jvm.Pilot.CRockingHorseLaw_law_r1955_07140d.hi σ a q))).slots.size : Int); rw [arrV_size]; omega)
    (by rw [nn_int hj, nn_int hn0]; show ¬ _ > ((arrV _ (hk σ b).2 (fun q => .int (Jvm.Pilot.CRockingHorseLaw_law_r1955_07140d.hi σ b q))).slots.size : Int); rw [arrV_size]; omega)
    (fun vm₁ _ q hq => by
      have e : (vp_cell ((xY X).2.2.2 0) ((hk σ a).2, .inl (Jvm.Pilot.CRockingHorseLaw_law_r1955_07140d.hi σ a))).slots.getD (i.toNatClampNeg + q) .null = .int (Jvm.Pilot.CRockingHorseLaw_law_r1955_07140d.hi σ a (i.toNatClampNeg + q)) := by
        show (arrV _ (hk σ a).2 (fun q => .int (Jvm.Pilot.CRockingHorseLaw_law_r1955_07140d.hi σ a q))).slots.getD _ _ = _
        rw [Array.getD_eq_getD_getElem?, arrV_read _ _ (by omega)]
        rfl
      refine ⟨?_, ?_⟩
      · rw [e]; rfl
      · rw [e]; exact trivial)
    (g := F0 (xm X) pc ls (.int n :: .int j :: .ref ((xY X).1 + b) :: .int i :: .ref ((xY X).1 + a) :: st.map (cv (xY X)))) rfl (hl.1.trans hX.ml.symm) (rest := st.map (cv (xY X))) rfl (by rw [hX.co]; exact hd) (by omega) (by rw [stw_cat]; show 2 * 0 + _ + (nativeFrameWords "java/lang/System" "arraycopy" 5 + 11) ≤ _; omega)
  have ec : copied (vp_cell ((xY X).2.2.2 0) ((hk σ a).2, .inl (Jvm.Pilot.CRockingHorseLaw_law_r1955_07140d.hi σ a))) (vp_cell ((xY X).2.2.2 0) ((hk σ b).2, .inl (Jvm.Pilot.CRockingHorseLaw_law_r1955_07140d.hi σ b))) i j n = vp_cell ((xY X).2.2.2 0) ((hk σ b).2, .inl (va_cpy (Jvm.Pilot.CRockingHorseLaw_law_r1955_07140d.hi σ a) (Jvm.Pilot.CRockingHorseLaw_law_r1955_07140d.hi σ b) i.toNatClampNeg j.toNatClampNeg n.toNatClampNeg)) := va_copied (fun z => .int z) _ _ (Jvm.Pilot.CRockingHorseLaw_law_r1955_07140d.hi σ a) (Jvm.Pilot.CRockingHorseLaw_law_r1955_07140d.hi σ b) hla
  rw [ec] at X' step
  have hlt : (xY X).1 + b < H.size := (Array.getElem?_eq_some_iff.mp hcb).1
  generalize hcell : vp_cell ((xY X).2.2.2 0) ((hk σ b).2, .inl (va_cpy (Jvm.Pilot.CRockingHorseLaw_law_r1955_07140d.hi σ a) (Jvm.Pilot.CRockingHorseLaw_law_r1955_07140d.hi σ b) i.toNatClampNeg j.toNatClampNeg n.toNatClampNeg)) = cell at X' step
  have hheap : ((T.setVm vm').setCell ((xY X).1 + b) cell).heap = H.setIfInBounds ((xY X).1 + b) cell := by rw [← hT]; rfl
  have oq : ∀ q : Nat, q ≠ (xY X).1 + b → (H.setIfInBounds ((xY X).1 + b) cell)[q]? = H[q]? := fun q hq => by simp [Array.getElem?_setIfInBounds, Ne.symm hq]
  have oz : (H.setIfInBounds ((xY X).1 + b) cell).size = H.size := by simp
  have hat : ∃ w, va_at (xY X).2.1 clsL ((xY X).1 + b, cellE (xY X) (cpI σ a i.toNatClampNeg b j.toNatClampNeg n.toNatClampNeg) b w) (H.setIfInBounds ((xY X).1 + b) cell) := by
    refine at_inl (cellE_100 (σ := cpI σ a i.toNatClampNeg b j.toNatClampNeg n.toNatClampNeg) hkb) ?_
    have hrow : Jvm.Pilot.CRockingHorseLaw_law_r1955_07140d.hi (cpI σ a i.toNatClampNeg b j.toNatClampNeg n.toNatClampNeg) b = va_cpy (Jvm.Pilot.CRockingHorseLaw_law_r1955_07140d.hi σ a) (Jvm.Pilot.CRockingHorseLaw_law_r1955_07140d.hi σ b) i.toNatClampNeg j.toNatClampNeg n.toNatClampNeg := funext fun q => if_pos rfl
    rw [hrow]
    show (H.setIfInBounds _ cell)[_]? = some (vp_cell _ ((hk σ b).2, _))
    rw [hcell]
    simp [Array.getElem?_setIfInBounds, hlt]
  obtain ⟨t, a1, b1⟩ := g hX ls _ _ h0 h1 h2 hl (hW.set rfl (fun c hc => cellE_cp hc) hat oz oq) ⟨by rw [oz]; exact hS.1, fun q g1 g2 => by
      rw [oq q (fun e => g2 (by rw [e]; exact Nat.le_add_right _ _))]
      exact hS.2.1 q g1 g2, fun q hq => by
      rcases List.mem_append.mp hq with h | h
      · exact hS.2.2 q h
      · obtain ⟨z, -, hz⟩ := List.mem_map.mp h
        rw [← hz]
        exact Nat.le_add_right _ _⟩ _ hheap X'
  exact ⟨t, step t a1, b1⟩
theorem g_anewarray {n : Int32} {idx : Nat} {K : Option Nat → Hp → Option (β × Hp)} (hq : Cond.classLink M.2.2.1 idx RX2 ∈ lw_all) (hd : decode M.1 pc = .ok (.anewarray idx, 3)) (kk : ∀ a τ, GG X M Q (pc + 3) env (vA a :: st) τ (K a τ)) : GG X M Q pc env (vI n :: st) σ (nA 104 σ n K) := by
  intro r σf ho
  unfold nA at ho
  by_cases hc : ¬ n < 0 ∧ n.toNatClampNeg ≤ 65536
  · rw [if_pos hc] at ho
    obtain ⟨hle, g⟩ := kk _ _ r σf ho
    refine ⟨nw_Le.tr hle, fun hX ls H locs h0 h1 h2 hl hW hS => ?_⟩
    obtain ⟨r1, r2, r3, r4⟩ := new_room (X := X) hle h0 h1 h2
    have hb : n.toNatClampNeg * 4 ≤ 536870912 := by omega
    refine W.anew hX.ex hX.co hX.ow (hX.ts _ hq) (va_AO.use hX.ext.2.2.2.1) rfl hd rfl hc.1 hb r1 r2 fun cA kA comp f1 f2 f3 f4 => ?_
    generalize hH1 : H.push ({ cls := cA, slots := Array.replicate n.toNatClampNeg .null, vm := .none } : Cell) = H1
    have z1 : H1.size = H.size + 1 := by rw [← hH1, Array.size_push]
    have e1 : H1[H.size]? = some (arrV cA n.toNatClampNeg (fun _ => .null)) := by rw [← hH1, Array.getElem?_push_size, ← arrV_new]
    have o1 : ∀ q, q < H.size → H1[q]? = H[q]? := fun q hq => by rw [← hH1, Array.getElem?_push, if_neg (Nat.ne_of_lt hq)]
    have g := g hX ls H1 locs (h0.tr nw_Le) h1 h2 hl (hW.new z1 o1 ?_) (hS_new hS z1 o1)
    · rw [r3, r4] at g
      rw [hW.1]
      exact g
    · refine ⟨.null, ?_⟩
      rw [cellE_104 (by rw [nw_new])]
      show H1[_]? = some (vp_cell _ _)
      rw [← hW.1, e1, vp_cell_q, nw_new]
      obtain ⟨kA2, comp2, -, -, -, h5⟩ := (hX.K.2 4 _ rfl).2
      have hcA : (xY X).2.2.2 4 = cA := Option.some.inj (h5.symm.trans f1)
      rw [hcA]
      congr 2
      funext q
      have : hr (nw σ 104 n.toNatClampNeg) (hn σ) q = none := if_pos rfl
      rw [this]
      rfl
  · rw [if_neg hc] at ho; cases ho
end more
theorem tcok_0 : ∀ j, j < cN 0 → tyc (tyX1 j) (cT 0 j) = true := by decide +kernel
theorem tcok_1 : ∀ j, j < cN 1 → tyc (tyX2 j) (cT 1 j) = true := by decide +kernel
theorem tcok_2 : ∀ j, j < cN 2 → tyc (tyX3 j) (cT 2 j) = true := by decide +kernel
theorem tcok_3 : ∀ j, j < cN 3 → tyc (tyK3 j) (cT 3 j) = true := by decide +kernel
theorem tcok_4 : ∀ j, j < cN 4 → tyc (tyK4 j) (cT 4 j) = true := by decide +kernel
theorem tcok_5 : ∀ j, j < cN 5 → tyc (tyK5 j) (cT 5 j) = true := by decide +kernel
theorem tcok_6 : ∀ j, j < cN 6 → tyc (tyK6 j) (cT 6 j) = true := by decide +kernel

