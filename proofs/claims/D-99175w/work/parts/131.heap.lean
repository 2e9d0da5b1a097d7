theorem okv_fit {ds : String} {ty : FieldType} {t : Nat} {v : Int32} (hd : parseFieldDescriptor ds = some ty) (ht : (ty = .int ∧ t = 0) ∨ (ty = .boolean ∧ t = 2) ∨ (ty = .char ∧ t = 3)) (hv : okv t v = true) : narrow ty (.int v) = .int v ∧ fits ty (.int v) = true := by
  rcases ht with ⟨rfl, rfl⟩ | ⟨rfl, rfl⟩ | ⟨rfl, rfl⟩
  · exact ⟨vp_nar_int v, rfl⟩
  · have hv : (v == 0 || v == 1) = true := hv
    refine ⟨?_, hv⟩
    simp only [Bool.or_eq_true, beq_iff_eq] at hv
    rcases hv with rfl | rfl <;> rfl
  · have hv : (decide (0 ≤ v) && decide (v ≤ 65535)) = true := hv
    simp only [Bool.and_eq_true, decide_eq_true_eq] at hv
    obtain ⟨j, hj, rfl⟩ := nI_of2 (x := v) (M := 65535) (n := 65535) (by decide) (by have := hv.1; exact Int32.not_lt.mpr this) hv.2
    exact pk_charN (by omega)
theorem ref_fit {ty : FieldType} {r : Option Nat} (ht : (∃ C, ty = .object C) ∨ ∃ t, ty = .array t) : narrow ty (va_rf r) = va_rf r ∧ fits ty (va_rf r) = true := by
  rcases ht with ⟨C, rfl⟩ | ⟨t, rfl⟩ <;> cases r <;> exact ⟨rfl, rfl⟩
/-- a type's code is right -/
def tyc (ty : FieldType) (t : Nat) : Bool := match ty with
  | .int => t == 0
  | .boolean => t == 2
  | .char => t == 3
  | .object _ => t == 1 || t == 9
  | .array _ => t == 1
  | _ => false
theorem tyc_i {ty : FieldType} {t : Nat} (h : tyc ty t = true) (ht : t ≠ 1 ∧ t ≠ 9) : (ty = .int ∧ t = 0) ∨ (ty = .boolean ∧ t = 2) ∨ (ty = .char ∧ t = 3) := by
  cases ty <;> simp_all [tyc]
theorem tyc_r {ty : FieldType} (h : tyc ty 1 = true) : (∃ C, ty = .object C) ∨ ∃ t, ty = .array t := by
  cases ty <;> simp_all [tyc]
section heap2
variable {β : Type} {X : Mx} {M : Mi} {pc : Nat} {Q : β → Hp → State → Prop} {env : List (Nat × LV)} {st : List LV} {σ : Hp} {o : Option (β × Hp)}
theorem flds_wI {Y : Yx} {ci a k : Nat} {v : Int32} (ht : cT ci k ≠ 1 ∧ cT ci k ≠ 9) (w : Value) : (flds Y σ ci a w).set k (.int v) = flds Y (wI σ a k v) ci a w := by
  refine flds_set ?_ (fun j hj => ?_)
  · unfold fldv
    rw [if_neg ht.1, if_neg ht.2]
    show Value.int (up2 _ a k v a k) = _
    rw [up2_self, if_pos rfl]
  · unfold fldv
    show (if _ then _ else if _ then _ else Value.int (up2 _ a k v a j)) = _
    rw [up2_self, if_neg hj]
    rfl
theorem flds_wR {Y : Yx} {ci a k : Nat} {v : Option Nat} (ht : cT ci k = 1) (w : Value) : (flds Y σ ci a w).set k (va_rf (rz Y v)) = flds Y (wR σ a k v) ci a w := by
  refine flds_set ?_ (fun j hj => ?_)
  · unfold fldv
    rw [if_pos ht]
    show va_rf (rz Y (up2 _ a k v a k)) = _
    rw [up2_self, if_pos rfl]
  · unfold fldv
    show (if _ then va_rf (rz Y (up2 _ a k v a j)) else _) = _
    rw [up2_self, if_neg hj]
    rfl
theorem g_putI {ci k t idx : Nat} {C : String} {T : u_T} {ty : Nat → FieldType} {O nm ds : String} {x : Option Nat} {v : Int32} {K : Hp → Option (β × Hp)} (hF : FO ci k t C T ty O nm ds false) (ht : t ≠ 1 ∧ t ≠ 9) (hty : tyc (ty k) t = true) (hq : Cond.fieldLink M.2.2.1 idx O nm ds ∈ lw_all) (hd : decode M.1 pc = .ok (.putfield idx, 3)) (kk : ∀ τ, GG X M Q (pc + 3) env st τ (K τ)) : GG X M Q pc env (vI v :: vA x :: st) σ (pI t ci k σ x v K) := by
  intro r σf ho
  obtain ⟨a, rfl, ha, hc, ho⟩ := ob_inv ho
  by_cases hv : okv t v = true
  · rw [if_pos hv] at ho
    obtain ⟨hle, g⟩ := kk _ r σf ho
    obtain ⟨hC, hk', hct, hTk⟩ := hF
    refine ⟨hle, fun hX ls H locs h0 h1 h2 hl hW hS => ?_⟩
    obtain ⟨cell, cf, kf, fi, f, e1, e2, e3, e4, e5, e6, e7, e8, e9⟩ := put_core hX hC hk' (by rw [hct]; exact ht.2) hW ha hc
    rw [hTk] at e3 e7
    have hfit := okv_fit (hC.2.2.2.1 k hk') (tyc_i hty ht) hv
    refine W.putK hX.ex hX.co (f := f) ⟨hX.ow, hX.ts _ hq, ⟨_, _, _, e3⟩, e5⟩ ⟨e7 rfl, e6 _ hfit.1 hfit.2⟩ e1 e2 e4 rfl rfl hd fun H1 f1 f2 f3 => ?_
    exact g hX ls H1 _ h0 h1 h2 hl (hW.set rfl (fun b hb => cellE_wI hb) (e9 _ _ H1 (flds_wI (by rw [hct]; exact ht)) hc f1) f2 f3) (hS_put hS f2 f3)
  · rw [if_neg hv] at ho; cases ho
theorem g_putR {ci k idx : Nat} {C : String} {T : u_T} {ty : Nat → FieldType} {O nm ds : String} {x v : Option Nat} {K : Hp → Option (β × Hp)} (hF : FO ci k 1 C T ty O nm ds false) (hty : tyc (ty k) 1 = true) (hq : Cond.fieldLink M.2.2.1 idx O nm ds ∈ lw_all) (hd : decode M.1 pc = .ok (.putfield idx, 3)) (kk : ∀ τ, GG X M Q (pc + 3) env st τ (K τ)) : GG X M Q pc env (vA v :: vA x :: st) σ (pR ci k σ x v K) := by
  intro r σf ho
  obtain ⟨a, rfl, ha, hc, ho⟩ := ob_inv ho
  obtain ⟨hle, g⟩ := kk _ r σf ho
  obtain ⟨hC, hk', hct, hTk⟩ := hF
  refine ⟨hle, fun hX ls H locs h0 h1 h2 hl hW hS => ?_⟩
  obtain ⟨cell, cf, kf, fi, f, e1, e2, e3, e4, e5, e6, e7, e8, e9⟩ := put_core hX hC hk' (by rw [hct]; decide) hW ha hc
  rw [hTk] at e3 e7
  have hfit := ref_fit (r := rz (xY X) v) (tyc_r hty)
  refine W.putK hX.ex hX.co (f := f) ⟨hX.ow, hX.ts _ hq, ⟨_, _, _, e3⟩, e5⟩ ⟨e7 rfl, e6 _ hfit.1 hfit.2⟩ e1 e2 e4 rfl rfl hd fun H1 f1 f2 f3 => ?_
  exact g hX ls H1 _ h0 h1 h2 hl (hW.set rfl (fun b hb => cellE_wR hb) (e9 _ _ H1 (flds_wR hct) hc f1) f2 f3) (hS_put hS f2 f3)
theorem g_putIF (hin : M.2.2.2.2.2 = "<init>") {ci k t idx : Nat} {C : String} {T : u_T} {ty : Nat → FieldType} {O nm ds : String} {x : Option Nat} {v : Int32} {K : Hp → Option (β × Hp)} (hF : FO ci k t C T ty O nm ds true) (hO : O = M.2.2.1) (ht : t ≠ 1 ∧ t ≠ 9) (hty : tyc (ty k) t = true) (hq : Cond.fieldLink M.2.2.1 idx O nm ds ∈ lw_all) (hd : decode M.1 pc = .ok (.putfield idx, 3)) (kk : ∀ τ, GG X M Q (pc + 3) env st τ (K τ)) : GG X M Q pc env (vI v :: vA x :: st) σ (pI t ci k σ x v K) := by
  intro r σf ho
  obtain ⟨a, rfl, ha, hc, ho⟩ := ob_inv ho
  by_cases hv : okv t v = true
  · rw [if_pos hv] at ho
    obtain ⟨hle, g⟩ := kk _ r σf ho
    obtain ⟨hC, hk', hct, hTk⟩ := hF
    refine ⟨hle, fun hX ls H locs h0 h1 h2 hl hW hS => ?_⟩
    obtain ⟨cell, cf, kf, fi, f, e1, e2, e3, e4, e5, e6, e7, e8, e9⟩ := put_core hX hC hk' (by rw [hct]; exact ht.2) hW ha hc
    rw [hTk] at e3 e8
    have hfit := okv_fit (hC.2.2.2.1 k hk') (tyc_i hty ht) hv
    refine W.putFinK hX.ex hX.co hX.ow (hX.ts _ hq) e3 e5 (e8 rfl hO) (hX.nm.trans hin) (e6 _ hfit.1 hfit.2) e1 e2 e4 rfl rfl hd fun H1 f1 f2 f3 => ?_
    exact g hX ls H1 _ h0 h1 h2 hl (hW.set rfl (fun b hb => cellE_wI hb) (e9 _ _ H1 (flds_wI (by rw [hct]; exact ht)) hc f1) f2 f3) (hS_put hS f2 f3)
  · rw [if_neg hv] at ho; cases ho
theorem g_putRF (hin : M.2.2.2.2.2 = "<init>") {ci k idx : Nat} {C : String} {T : u_T} {ty : Nat → FieldType} {O nm ds : String} {x v : Option Nat} {K : Hp → Option (β × Hp)} (hF : FO ci k 1 C T ty O nm ds true) (hO : O = M.2.2.1) (hty : tyc (ty k) 1 = true) (hq : Cond.fieldLink M.2.2.1 idx O nm ds ∈ lw_all) (hd : decode M.1 pc = .ok (.putfield idx, 3)) (kk : ∀ τ, GG X M Q (pc + 3) env st τ (K τ)) : GG X M Q pc env (vA v :: vA x :: st) σ (pR ci k σ x v K) := by
  intro r σf ho
  obtain ⟨a, rfl, ha, hc, ho⟩ := ob_inv ho
  obtain ⟨hle, g⟩ := kk _ r σf ho
  obtain ⟨hC, hk', hct, hTk⟩ := hF
  refine ⟨hle, fun hX ls H locs h0 h1 h2 hl hW hS => ?_⟩
  obtain ⟨cell, cf, kf, fi, f, e1, e2, e3, e4, e5, e6, e7, e8, e9⟩ := put_core hX hC hk' (by rw [hct]; decide) hW ha hc
  rw [hTk] at e3 e8
  have hfit := ref_fit (r := rz (xY X) v) (tyc_r hty)
  refine W.putFinK hX.ex hX.co hX.ow (hX.ts _ hq) e3 e5 (e8 rfl hO) (hX.nm.trans hin) (e6 _ hfit.1 hfit.2) e1 e2 e4 rfl rfl hd fun H1 f1 f2 f3 => ?_
  exact g hX ls H1 _ h0 h1 h2 hl (hW.set rfl (fun b hb => cellE_wR hb) (e9 _ _ H1 (flds_wR hct) hc f1) f2 f3) (hS_put hS f2 f3)
theorem g_putIN {ci k t idx : Nat} {C : String} {T : u_T} {ty : Nat → FieldType} {O nm ds host : String} {x : Option Nat} {v : Int32} {K : Hp → Option (β × Hp)} (hF : FO ci k t C T ty O nm ds false) (ht : t ≠ 1 ∧ t ≠ 9) (hty : tyc (ty k) t = true) (hq : (M.2.2.1, idx, O, nm, ds, host) ∈ nwF) (hd : decode M.1 pc = .ok (.putfield idx, 3)) (kk : ∀ τ, GG X M Q (pc + 3) env st τ (K τ)) : GG X M Q pc env (vI v :: vA x :: st) σ (pI t ci k σ x v K) := by
  intro r σf ho
  obtain ⟨a, rfl, ha, hc, ho⟩ := ob_inv ho
  by_cases hv : okv t v = true
  · rw [if_pos hv] at ho
    obtain ⟨hle, g⟩ := kk _ r σf ho
    obtain ⟨hC, hk', hct, hTk⟩ := hF
    refine ⟨hle, fun hX ls H locs h0 h1 h2 hl hW hS => ?_⟩
    obtain ⟨cell, cf, kf, fi, f, e1, e2, e3, e4, e5, e6, e7, e8, e9⟩ := put_core hX hC hk' (by rw [hct]; exact ht.2) hW ha hc
    rw [hTk] at e3 e7
    have hfit := okv_fit (hC.2.2.2.1 k hk') (tyc_i hty ht) hv
    refine va_WputK hX.ex hX.co hX.ow (va_Nw.use rfl (hX.ext.2.1 _ hq)) e3 e5 ⟨e7 rfl, e6 _ hfit.1 hfit.2⟩ e1 e2 e4 rfl rfl hd fun H1 f1 f2 f3 => ?_
    exact g hX ls H1 _ h0 h1 h2 hl (hW.set rfl (fun b hb => cellE_wI hb) (e9 _ _ H1 (flds_wI (by rw [hct]; exact ht)) hc f1) f2 f3) (hS_put hS f2 f3)
  · rw [if_neg hv] at ho; cases ho
end heap2
