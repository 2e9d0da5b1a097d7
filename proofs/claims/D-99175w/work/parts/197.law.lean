/-! FOUNDATION 12: the law's own entry -/
/-- the script, as the law's start has it -/
def LwX (X : Mx) (L : Nat) (xs : Nat → Int32) : Prop := va_X ((xY X).2.2.1 16) L xs (Jvm.Pilot.CRockingHorseLaw_law_r1955_07140d.xs X) (Jvm.Pilot.CRockingHorseLaw_law_r1955_07140d.xs X).heap ∧ (xY X).2.2.1 16 < (Jvm.Pilot.CRockingHorseLaw_law_r1955_07140d.xs X).heap.size ∧ ¬ xA X ((xY X).2.2.1 16)
/-- a number of the script -/
def lX {γ : Type} (L : Nat) (xs : Nat → Int32) (i : Int32) (K : Int32 → Option γ) : Option γ := if ¬ (i < 0 ∨ L ≤ i.toNatClampNeg) then K (xs i.toNatClampNeg) else none
/-- the law's answer: only true counts -/
def lwr (v : Int32) (σ : Hp) : Option (Int32 × Hp) := if v = 1 then some (v, σ) else none
section law
variable {β : Type} {X : Mx} {M : Mi} {pc : Nat} {Q : β → Hp → State → Prop} {env : List (Nat × LV)} {st : List LV} {σ : Hp} {o : Option (β × Hp)} {L : Nat} {xs : Nat → Int32}
theorem g_sload (hw : LwX X L xs) {i : Int32} {K : Int32 → Option (β × Hp)} (hd : decode M.1 pc = .ok (.iaload, 1)) (kk : ∀ v, GG X M Q (pc + 1) env (vI v :: st) σ (K v)) : GG X M Q pc env (vI i :: vS 16 :: st) σ (lX L xs i K) := by
  intro r σf h
  unfold lX at h
  by_cases hx : ¬ (i < 0 ∨ L ≤ i.toNatClampNeg)
  · rw [if_pos hx] at h
    obtain ⟨hle, g⟩ := kk _ r σf h
    refine ⟨hle, fun hX ls H locs h0 h1 h2 hl hW hS => ?_⟩
    exact va_sld hX.ex hX.co hw.1 hw.2.1 hw.2.2 hS hx hd (g hX ls H locs h0 h1 h2 hl hW hS)
  · rw [if_neg hx] at h; cases h
theorem g_slen (hw : LwX X L xs) (hd : decode M.1 pc = .ok (.arraylength, 1)) (kk : GG X M Q (pc + 1) env (vI (Int32.ofNat L) :: st) σ o) : GG X M Q pc env (vS 16 :: st) σ o := by
  intro r σf h
  obtain ⟨hle, g⟩ := kk r σf h
  refine ⟨hle, fun hX ls H locs h0 h1 h2 hl hW hS => ?_⟩
  exact va_slen hX.ex hX.co hw.1 hw.2.1 hw.2.2 hS hd (g hX ls H locs h0 h1 h2 hl hW hS)
def QL (X : Mx) (_ : Int32) (_ : Hp) : State → Prop := lw_Z (xb X) (xa X) (Jvm.Pilot.CRockingHorseLaw_law_r1955_07140d.xs X)
theorem g_lwr {b : Nat} {v : Int32} (hc : M.1 = code) (hr : M.2.2.2.2.1 = ret) (ha : xa X = #[Value.ref b]) (hR : xR X = room_1) (hz : (Jvm.Pilot.CRockingHorseLaw_law_r1955_07140d.xs X).heap.size = (xY X).1) (h00 : hn (x0 X) = 0 ∧ hu (x0 X) = 0) (hd : decode M.1 pc = .ok (.ireturn, 1)) : GG X M (QL X) pc env [vI v] σ (lwr v σ) := by
  intro r σf h
  unfold lwr at h
  by_cases hv : v = 1
  · rw [if_pos hv] at h
    cases h
    subst hv
    refine ⟨Le.rfl', fun hX ls H locs h0 h1 h2 hl hW hS => ?_⟩
    rw [hc] at hd
    have hco := hX.co
    rw [hc] at hco
    have hrt := hX.rt
    rw [hr] at hrt
    refine va_forget (fun q hq => by rw [hz]; exact hS.2.2 q hq) ?_
    rw [hR] at h1 h2
    refine W.widen (k := 601024) (n := 7293034) (by have : room_1.cells = 601024 := rfl; omega) (by have : room_1.slots = 7293034 := rfl; omega) ?_
    unfold QL
    rw [ha, hR]
    exact lw_ret hX.ex hco hrt hX.lk hd
  · rw [if_neg hv] at h; cases h
end law
