/-! FOUNDATION 4: rows that read and write the heap -/
def okv (t : Nat) (v : Int32) : Bool := if t = 2 then v == 0 || v == 1 else if t = 3 then decide (0 ≤ v) && decide (v ≤ 65535) else true
/-- an object of class c at o -/
def ob {γ : Type} (c : Nat) (σ : Hp) (o : Option Nat) (K : Nat → Option γ) : Option γ := match o with
  | none => none
  | some a => if a < hn σ ∧ (hk σ a).1 = c then K a else none
def gI {γ : Type} (c k : Nat) (σ : Hp) (o : Option Nat) (K : Int32 → Option γ) : Option γ := ob c σ o (fun a => K (hi σ a k))
def gR {γ : Type} (c k : Nat) (σ : Hp) (o : Option Nat) (K : Option Nat → Option γ) : Option γ := ob c σ o (fun a => K (hr σ a k))
def pI {γ : Type} (t c k : Nat) (σ : Hp) (o : Option Nat) (v : Int32) (K : Hp → Option γ) : Option γ := ob c σ o (fun a => if okv t v = true then K (wI σ a k v) else none)
def pR {γ : Type} (c k : Nat) (σ : Hp) (o : Option Nat) (v : Option Nat) (K : Hp → Option γ) : Option γ := ob c σ o (fun a => K (wR σ a k v))
/-- a place of an array of kind t at o -/
def ar {γ : Type} (t : Nat) (σ : Hp) (o : Option Nat) (i : Int32) (K : Nat → Nat → Option γ) : Option γ := match o with
  | none => none
  | some a => if (a < hn σ ∧ (hk σ a).1 = t) ∧ ¬ (i < 0 ∨ (hk σ a).2 ≤ i.toNatClampNeg) then K a i.toNatClampNeg else none
def lI {γ : Type} (t : Nat) (σ : Hp) (o : Option Nat) (i : Int32) (K : Int32 → Option γ) : Option γ := ar t σ o i (fun a j => K (hi σ a j))
def lL {γ : Type} (σ : Hp) (o : Option Nat) (i : Int32) (K : Int64 → Option γ) : Option γ := ar 103 σ o i (fun a j => K (hl σ a j))
def lR {γ : Type} (σ : Hp) (o : Option Nat) (i : Int32) (K : Option Nat → Option γ) : Option γ := ar 104 σ o i (fun a j => K (hr σ a j))
def sI {γ : Type} (σ : Hp) (o : Option Nat) (i : Int32) (v : Int32) (K : Hp → Option γ) : Option γ := ar 100 σ o i (fun a j => K (wI σ a j v))
def sB {γ : Type} (σ : Hp) (o : Option Nat) (i : Int32) (v : Int32) (K : Hp → Option γ) : Option γ := ar 101 σ o i (fun a j => K (wI σ a j (vp_nar .byte v)))
def sZ {γ : Type} (σ : Hp) (o : Option Nat) (i : Int32) (v : Int32) (K : Hp → Option γ) : Option γ := ar 102 σ o i (fun a j => K (wI σ a j (vp_nar .boolean v)))
def sL {γ : Type} (σ : Hp) (o : Option Nat) (i : Int32) (v : Int64) (K : Hp → Option γ) : Option γ := ar 103 σ o i (fun a j => K (wL σ a j v))
/-- a Horse, or null, into an array of Horses -/
def sR {γ : Type} (σ : Hp) (o : Option Nat) (i : Int32) (v : Option Nat) (K : Hp → Option γ) : Option γ := match v with
  | none => ar 104 σ o i (fun a j => K (wR σ a j none))
  | some b => if b < hn σ ∧ (hk σ b).1 = 1 then ar 104 σ o i (fun a j => K (wR σ a j (some b))) else none
def nO {γ : Type} (c n : Nat) (σ : Hp) (K : Option Nat → Hp → Option γ) : Option γ := K (some (hn σ)) (nw σ c n)
def nA {γ : Type} (t : Nat) (σ : Hp) (n : Int32) (K : Option Nat → Hp → Option γ) : Option γ := if ¬ n < 0 ∧ n.toNatClampNeg ≤ 65536 then K (some (hn σ)) (nw σ t n.toNatClampNeg) else none
section heap
variable {β : Type} {X : Mx} {M : Mi} {pc : Nat} {Q : β → Hp → State → Prop} {env : List (Nat × LV)} {st : List LV} {σ : Hp} {o : Option (β × Hp)}
theorem ob_inv {γ : Type} {c : Nat} {o : Option Nat} {K : Nat → Option γ} {r : γ} (h : ob c σ o K = some r) : ∃ a, o = some a ∧ a < hn σ ∧ (hk σ a).1 = c ∧ K a = some r := by
  cases o with
  | none => cases h
  | some a =>
    have h : (if a < hn σ ∧ (hk σ a).1 = c then K a else none) = some r := h
    by_cases hc : a < hn σ ∧ (hk σ a).1 = c
    · rw [if_pos hc] at h
      exact ⟨a, rfl, hc.1, hc.2, h⟩
    · rw [if_neg hc] at h
      cases h
theorem ar_inv {γ : Type} {t : Nat} {o : Option Nat} {i : Int32} {K : Nat → Nat → Option γ} {r : γ} (h : ar t σ o i K = some r) : ∃ a, o = some a ∧ a < hn σ ∧ (hk σ a).1 = t ∧ vp_in i (hk σ a).2 ∧ K a i.toNatClampNeg = some r := by
  cases o with
  | none => cases h
  | some a =>
    have h : (if (a < hn σ ∧ (hk σ a).1 = t) ∧ ¬ (i < 0 ∨ (hk σ a).2 ≤ i.toNatClampNeg) then K a i.toNatClampNeg else none) = some r := h
    by_cases hc : (a < hn σ ∧ (hk σ a).1 = t) ∧ ¬ (i < 0 ∨ (hk σ a).2 ≤ i.toNatClampNeg)
    · rw [if_pos hc] at h
      exact ⟨a, rfl, hc.1.1, hc.1.2, hc.2, h⟩
    · rw [if_neg hc] at h
      cases h
theorem g_getI {ci k t idx : Nat} {C : String} {T : u_T} {ty : Nat → FieldType} {O nm ds : String} {fin : Bool} {x : Option Nat} {K : Int32 → Option (β × Hp)} (hF : FO ci k t C T ty O nm ds fin) (ht : t ≠ 1 ∧ t ≠ 9) (hq : Cond.fieldLink M.2.2.1 idx O nm ds ∈ lw_all) (hd : decode M.1 pc = .ok (.getfield idx, 3)) (kk : ∀ v, GG X M Q (pc + 3) env (vI v :: st) σ (K v)) : GG X M Q pc env (vA x :: st) σ (gI ci k σ x K) := by
  intro r σf ho
  obtain ⟨a, rfl, ha, hc, ho⟩ := ob_inv ho
  obtain ⟨hle, g⟩ := kk _ r σf ho
  obtain ⟨⟨hcl, hci, hin, -, -⟩, hk', hct, hTk⟩ := hF
  refine ⟨hle, fun hX ls H locs h0 h1 h2 hl hW hS => ?_⟩
  obtain ⟨w, hP⟩ := hW.P ha
  exact va_get hX.ex hX.co hX.ts hin hX.ow hX.K (hP _ (cellE_o hc hci)) 0 rfl hcl k hk' (by rw [hTk]; exact hX.ts _ hq) (by rw [hTk]; exact fun _ h => h) (v := .int (hi σ a k)) (by rw [flds_at hk', hct, fldv, if_neg ht.1, if_neg ht.2]) hd (g hX ls H locs h0 h1 h2 hl hW hS)
theorem g_getR {ci k idx : Nat} {C : String} {T : u_T} {ty : Nat → FieldType} {O nm ds : String} {fin : Bool} {x : Option Nat} {K : Option Nat → Option (β × Hp)} (hF : FO ci k 1 C T ty O nm ds fin) (hq : Cond.fieldLink M.2.2.1 idx O nm ds ∈ lw_all) (hd : decode M.1 pc = .ok (.getfield idx, 3)) (kk : ∀ v, GG X M Q (pc + 3) env (vA v :: st) σ (K v)) : GG X M Q pc env (vA x :: st) σ (gR ci k σ x K) := by
  intro r σf ho
  obtain ⟨a, rfl, ha, hc, ho⟩ := ob_inv ho
  obtain ⟨hle, g⟩ := kk _ r σf ho
  obtain ⟨⟨hcl, hci, hin, -, -⟩, hk', hct, hTk⟩ := hF
  refine ⟨hle, fun hX ls H locs h0 h1 h2 hl hW hS => ?_⟩
  obtain ⟨w, hP⟩ := hW.P ha
  exact va_get hX.ex hX.co hX.ts hin hX.ow hX.K (hP _ (cellE_o hc hci)) 0 rfl hcl k hk' (by rw [hTk]; exact hX.ts _ hq) (by rw [hTk]; exact fun _ h => h) (v := va_rf (rz (xY X) (hr σ a k))) (by rw [flds_at hk', hct, fldv, if_pos rfl]) hd (g hX ls H locs h0 h1 h2 hl hW hS)
theorem g_getIN {ci k t idx : Nat} {C : String} {T : u_T} {ty : Nat → FieldType} {O nm ds host : String} {fin : Bool} {x : Option Nat} {K : Int32 → Option (β × Hp)} (hF : FO ci k t C T ty O nm ds fin) (ht : t ≠ 1 ∧ t ≠ 9) (hq : (M.2.2.1, idx, O, nm, ds, host) ∈ nwF) (hd : decode M.1 pc = .ok (.getfield idx, 3)) (kk : ∀ v, GG X M Q (pc + 3) env (vI v :: st) σ (K v)) : GG X M Q pc env (vA x :: st) σ (gI ci k σ x K) := by
  intro r σf ho
  obtain ⟨a, rfl, ha, hc, ho⟩ := ob_inv ho
  obtain ⟨hle, g⟩ := kk _ r σf ho
  obtain ⟨⟨hcl, hci, hin, -, -⟩, hk', hct, hTk⟩ := hF
  refine ⟨hle, fun hX ls H locs h0 h1 h2 hl hW hS => ?_⟩
  obtain ⟨w, hP⟩ := hW.P ha
  exact va_getN hX.ex hX.co hX.ts hin hX.ow hX.K (hP _ (cellE_o hc hci)) 0 rfl hcl k hk' (by rw [hTk]; exact va_Nw.use rfl (hX.ext.2.1 _ hq)) (by rw [hTk]; exact fun _ h => h) (v := .int (hi σ a k)) (by rw [flds_at hk', hct, fldv, if_neg ht.1, if_neg ht.2]) hd (g hX ls H locs h0 h1 h2 hl hW hS)
theorem g_getRN {ci k idx : Nat} {C : String} {T : u_T} {ty : Nat → FieldType} {O nm ds host : String} {fin : Bool} {x : Option Nat} {K : Option Nat → Option (β × Hp)} (hF : FO ci k 1 C T ty O nm ds fin) (hq : (M.2.2.1, idx, O, nm, ds, host) ∈ nwF) (hd : decode M.1 pc = .ok (.getfield idx, 3)) (kk : ∀ v, GG X M Q (pc + 3) env (vA v :: st) σ (K v)) : GG X M Q pc env (vA x :: st) σ (gR ci k σ x K) := by
  intro r σf ho
  obtain ⟨a, rfl, ha, hc, ho⟩ := ob_inv ho
  obtain ⟨hle, g⟩ := kk _ r σf ho
  obtain ⟨⟨hcl, hci, hin, -, -⟩, hk', hct, hTk⟩ := hF
  refine ⟨hle, fun hX ls H locs h0 h1 h2 hl hW hS => ?_⟩
  obtain ⟨w, hP⟩ := hW.P ha
  exact va_getN hX.ex hX.co hX.ts hin hX.ow hX.K (hP _ (cellE_o hc hci)) 0 rfl hcl k hk' (by rw [hTk]; exact va_Nw.use rfl (hX.ext.2.1 _ hq)) (by rw [hTk]; exact fun _ h => h) (v := va_rf (rz (xY X) (hr σ a k))) (by rw [flds_at hk', hct, fldv, if_pos rfl]) hd (g hX ls H locs h0 h1 h2 hl hW hS)
/-- what a store into a field needs, and leaves -/
theorem put_core (hX : OkX X M) {ci k a : Nat} {C : String} {T : u_T} {ty : Nat → FieldType} {H : Heap} (hC : CO ci C T ty) (hk' : k < cN ci) (hk9 : cT ci k ≠ 9) (hW : Wd (xY X) σ H) (ha : a < hn σ) (hc : (hk σ a).1 = ci) :
    ∃ (cell : Cell) (cf : ClassId) (kf : Class) (fi : Nat) (f : Field), H[(xY X).1 + a]? = some cell ∧ cell.vm = .none ∧ (xs X).fieldFound? (T k).1 (T k).2.1 (T k).2.2.1 = some (cf, kf, fi, f) ∧ f.slot < cell.slots.size ∧ f.isStatic = false ∧
      (∀ v : Value, narrow (ty k) v = v → fits (ty k) v = true → narrow f.type v = v ∧ (xs X).fitsSlot cell.cls .none f.slot v = true) ∧
      ((T k).2.2.2 = false → hasFlag f.accessFlags Acc.final = false) ∧ ((T k).2.2.2 = true → (T k).1 = M.2.2.1 → (xm X).cls = cf) ∧
      (∀ (τ : Hp) (v : Value) (H1 : Heap), (∀ w, (flds (xY X) σ ci a w).set k v = flds (xY X) τ ci a w) → (hk τ a).1 = ci → H1[(xY X).1 + a]? = some (cell.setSlot f.slot v) → ∃ w, va_at (xY X).2.1 clsL ((xY X).1 + a, cellE (xY X) τ a w) H1) := by
  obtain ⟨hcl, hci, hin, hty, hnm, h9⟩ := hC
  obtain ⟨w0, hat⟩ := hW.2 a ha
  rw [cellE_o hc hci] at hat
  obtain ⟨r, h1, cell, q1, q2, q3, q4⟩ := hat
  have hr : r = (C, T, cN ci) := Option.some.inj (h1.symm.trans hcl)
  subst hr
  obtain ⟨hS, hfc, kC, hkC, hkind⟩ := hX.K.1 ci _ hcl
  obtain ⟨cf, kf, fi, f, hi, hsl⟩ := hS k hk'
  have hap : ∀ j, j < cN ci → j ≠ k → cT ci j ≠ 9 → (xY X).2.1.2 ci k ≠ (xY X).2.1.2 ci j := by
    intro j hj hjk hj9
    obtain ⟨_, _, _, fb, hib, eb⟩ := hS j hj
    rw [← hsl, ← eb]
    refine u_apart (u_lays hX.ts hin hk') (u_lays hX.ts hin hj) hi hib ?_
    rw [(State.fieldFound?_type hi (hty k hk')).1, (State.fieldFound?_type hib (hty j hj)).1]
    exact hnm k hk' j hj (Ne.symm hjk) hk9 hj9
  have hlay := hX.ts _ (hin _ (u_in_lay hk'))
  have hl2 := u_lays hX.ts hin hk'
  have hst := (u_facts hfc hkC hl2 hi).1
  refine ⟨cell, cf, kf, fi, f, q1, q3, hi, by rw [hsl]; exact k2_hasslot (q4 k hk'), hst, fun v hn hv => ?_, fun hf => ?_, fun hf hd => ?_, fun τ v H1 hs hk2 he => ?_⟩
  · rw [q2]
    exact u_fits hfc hkC hkind hl2 hi (hty k hk') hn hv
  · unfold u_lay at hlay
    rw [if_neg (by rw [hf]; decide)] at hlay
    obtain ⟨c, k', cf', kf', fi', fd', r1, r2, hi', -, hfin, -⟩ := Cond.lays_spec hlay
    cases hi.symm.trans hi'
    exact hfin
  · unfold u_lay at hlay
    rw [if_pos hf] at hlay
    obtain ⟨_, _, c', _, _, _, -, -, hf', -, -, -, hown2, -⟩ := Cond.laysFinal_spec hlay
    have e1 : c' = cf := by have := hi.symm.trans hf'; simp at this; exact this.1.symm
    rw [hd] at hown2
    rw [← e1]; exact Option.some.inj (hX.ow.symm.trans hown2)
  · rw [hsl] at he
    -- the value at the place that nobody reads
    have hw : ∃ w, ∀ j, j < cN ci → cT ci j = 9 → (cell.setSlot ((xY X).2.1.2 ci k) v).slots[(xY X).2.1.2 ci j]? = some w := by
      by_cases hx : ∃ j, j < cN ci ∧ cT ci j = 9
      · obtain ⟨j, hj, hj9⟩ := hx
        have hsz : (xY X).2.1.2 ci j < (cell.setSlot ((xY X).2.1.2 ci k) v).slots.size := by
          show _ < (cell.slots.setIfInBounds _ _).size
          rw [Array.size_setIfInBounds]
          exact k2_hasslot (q4 j hj)
        refine ⟨(cell.setSlot ((xY X).2.1.2 ci k) v).slots[(xY X).2.1.2 ci j], fun i hi2 hi9 => ?_⟩
        rw [h9 i hi2 j hj hi9 hj9]
        exact Array.getElem?_eq_getElem hsz
      · exact ⟨.null, fun j hj hj9 => absurd ⟨j, hj, hj9⟩ hx⟩
    obtain ⟨w, hw⟩ := hw
    refine ⟨w, ?_⟩
    rw [cellE_o hk2 hci]
    refine ⟨_, hcl, ⟨_, he, q2, q3, fun j hj => ?_⟩⟩
    have hV : ∀ j, j < cN ci → vp_V (flds (xY X) τ ci a w) j = fldv (xY X) τ a j (cT ci j) w := fun j hj => by
      unfold vp_V
      rw [List.getD_eq_getElem?_getD, flds_at hj]
      rfl
    by_cases hj9 : cT ci j = 9
    · rw [hw j hj hj9, hV j hj, hj9]
      rfl
    · have hs := hs w0
      have e : vp_V (flds (xY X) τ ci a w) j = vp_V ((flds (xY X) σ ci a w0).set k v) j := by
        rw [hV j hj, hs]
        unfold vp_V
        rw [List.getD_eq_getElem?_getD, flds_at hj]
        show _ = fldv _ _ _ _ _ _
        unfold fldv
        by_cases h1 : cT ci j = 1
        · rw [if_pos h1, if_pos h1]
        · rw [if_neg h1, if_neg h1, if_neg hj9, if_neg hj9]
      rw [e]
      by_cases hjk : j = k
      · subst hjk
        rw [Cell.slots_setSlot_self _ (k2_hasslot (q4 j hj))]
        unfold vp_V
        rw [List.getD_eq_getElem?_getD, List.getElem?_set_self (by rw [flds_len]; exact hj)]
        rfl
      · rw [slot_ne _ _ (hap j hj hjk hj9), q4 j hj]
        unfold vp_V
        rw [List.getD_eq_getElem?_getD, List.getD_eq_getElem?_getD, List.getElem?_set_ne (Ne.symm hjk)]
end heap
