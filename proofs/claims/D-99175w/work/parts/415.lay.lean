/-! PURE 23: the least rota, the first of the least, hour by hour -/
noncomputable def minO (R : Nat → Prop) : Option Nat := @dite _ (∃ c, R c) (Classical.propDecidable _) (fun h => some (Classical.choose (ex_min (fun c => c) h))) (fun _ => none)
theorem minO_some {R : Nat → Prop} {v : Nat} : minO R = some v ↔ R v ∧ ∀ c, R c → v ≤ c := by
  unfold minO
  constructor
  · intro h
    split at h
    · rename_i hx
      have := Classical.choose_spec (ex_min (fun c => c) hx)
      cases h
      exact this
    · cases h
  · rintro ⟨h1, h2⟩
    rw [dif_pos ⟨v, h1⟩]
    have := Classical.choose_spec (ex_min (fun c => c) ⟨v, h1⟩)
    have a1 := this.2 v h1
    have a2 := h2 _ this.1
    congr 1
    omega
theorem minO_none {R : Nat → Prop} : minO R = none ↔ ∀ c, ¬ R c := by
  unfold minO
  constructor
  · intro h c hc
    rw [dif_pos ⟨c, hc⟩] at h
    cases h
  · intro h
    exact dif_neg (fun ⟨c, hc⟩ => h c hc)
theorem minO_of {R : Nat → Prop} {inf v : Nat} (h : IsMin R inf v) : v = (minO R).getD inf ∧ (v = inf ↔ minO R = none) := by
  rcases h with ⟨h1, h2⟩ | ⟨h1, h2, h3⟩
  · rw [minO_none.mpr h2]; exact ⟨h1, fun _ => rfl, fun _ => h1⟩
  · rw [minO_some.mpr ⟨h2, h3⟩]
    exact ⟨rfl, fun e => absurd e (by omega), fun e => by cases e⟩
theorem minO_congr {R R' : Nat → Prop} (h : ∀ c, R c ↔ R' c) : minO R = minO R' := by
  rw [show R = R' from funext fun c => propext (h c)]
/-- a set of hours, at so much an hour -/
def prS (p : Nat → Nat) (b : Nat) : Nat := sumN (fun h => if b.testBit h then p h else 0) 8
theorem prS_congr {p q : Nat → Nat} {b : Nat} (h : ∀ i, i < 8 → b.testBit i = true → p i = q i) : prS p b = prS q b := by
  refine sumN_congr fun i hi' => ?_
  by_cases hb : b.testBit i = true
  · rw [if_pos hb, if_pos hb, h i hi' hb]
  · rw [if_neg hb, if_neg hb]
theorem prS_le {p : Nat → Nat} {m b : Nat} (h : ∀ i, p i ≤ m) : prS p b ≤ m * pop b := by
  unfold prS pop
  have : ∀ n, sumN (fun h => if b.testBit h then p h else 0) n ≤ m * cnt b.testBit n := by
    intro n
    induction n with
    | zero => exact Nat.le_refl _
    | succ n ih =>
      unfold sumN cnt
      have := h n
      cases hb : b.testBit n
      · rw [Nat.mul_add]
        simp only [Bool.false_eq_true, if_false, Bool.toNat_false]
        omega
      · rw [Nat.mul_add]
        simp only [if_true, Bool.toNat_true]
        omega
  exact this 8
theorem prS_zero {b : Nat} : prS (fun _ => 0) b = 0 := sumN_zero fun i _ => by split <;> rfl
theorem prS_upd {p : Nat → Nat} {b k : Nat} (hb : b < 256) (h : b.testBit k = true) : prS p b = prS p (sd b (2 ^ k)) + p k := by
  have hk8 := bit_lt8 hb h
  unfold prS
  rw [sumN_upd (f := fun h => if b.testBit h then p h else 0) (g := fun h => if (sd b (2 ^ k)).testBit h then p h else 0) hk8]
  · rw [if_pos h]
  · intro i _ hne
    rw [sd_bit, bit_pow, decide_eq_false (fun e => hne e.symm), Bool.not_false, Bool.and_true]
  · rw [sd_bit, bit_pow, decide_eq_true rfl]
    simp
/-- who may have what -/
def okC (most may : Nat → Nat) (lim : Nat) (pr : Nat → Nat → Nat) (r b : Nat) : Prop := sbs b (may r) ∧ pop b ≤ most r ∧ prS (pr r) b ≤ lim
def Rq (P : Pk) (may : Nat → Nat) (lim : Nat) (pr : Nat → Nat → Nat) (S c : Nat) : Prop := Tw (okC P.most may lim pr) (fun r b => prS (pr r) b) 0 P.n S c
noncomputable def lstO (P : Pk) (may : Nat → Nat) (lim : Nat) (pr : Nat → Nat → Nat) : Option Nat := minO (Rq P may lim pr (2 ^ P.hrs - 1))
def fixM (may : Nat → Nat) (h r : Nat) : Nat → Nat := fun o => if o = r then may o else sd (may o) (2 ^ h)
def fstN (f : Nat → Bool) : Nat → Option Nat
  | 0 => none
  | n + 1 => match fstN f n with
    | some r => some r
    | none => if f n then some n else none
theorem fstN_none {f : Nat → Bool} : ∀ {n : Nat}, fstN f n = none → ∀ q, q < n → f q = false := by
  intro n
  induction n with
  | zero => intro _ q hq; exact absurd hq (Nat.not_lt_zero _)
  | succ n ih =>
    intro h q hq
    unfold fstN at h
    cases hf : fstN f n with
    | some q' => rw [hf] at h; cases h
    | none =>
      rw [hf] at h
      dsimp only at h
      split at h
      · cases h
      · rename_i hc
        by_cases e : q = n
        · rw [e]; exact Bool.eq_false_iff.mpr hc
        · exact ih hf q (by omega)
theorem fstN_some {f : Nat → Bool} {n r : Nat} (h : fstN f n = some r) : r < n ∧ f r = true ∧ ∀ q, q < r → f q = false := by
  induction n with
  | zero => cases h
  | succ n ih =>
    unfold fstN at h
    cases hf : fstN f n with
    | some q =>
      rw [hf] at h
      cases h
      obtain ⟨a1, a2, a3⟩ := ih hf
      exact ⟨by omega, a2, a3⟩
    | none =>
      rw [hf] at h
      dsimp only at h
      split at h
      · rename_i hn'
        cases h
        exact ⟨Nat.lt_succ_self _, hn', fstN_none hf⟩
      · cases h
theorem fstN_eq {f : Nat → Bool} {n r : Nat} (hr' : r < n) (h1 : f r = true) (h2 : ∀ q, q < r → f q = false) : fstN f n = some r := by
  cases hf : fstN f n with
  | none => rw [fstN_none hf r hr'] at h1; cases h1
  | some q =>
    obtain ⟨a1, a2, a3⟩ := fstN_some hf
    congr 1
    by_cases e1 : q < r
    · rw [h2 q e1] at a2; cases a2
    · by_cases e2 : r < q
      · rw [a3 r e2] at h1; cases h1
      · omega
/-- whether hour h can be r's, for v in all -/
noncomputable def tryF (P : Pk) (lim : Nat) (pr : Nat → Nat → Nat) (v : Nat) (may : Nat → Nat) (h r : Nat) : Bool := @decide ((may r).testBit h = true ∧ lstO P (fixM may h r) lim pr = some v) (Classical.propDecidable _)
/-- may and line, so many hours being laid -/
noncomputable def layS (P : Pk) (lim : Nat) (pr : Nat → Nat → Nat) (v : Nat) (may : Nat → Nat) : Nat → (Nat → Nat) × (Nat → Nat)
  | 0 => (may, fun _ => 0)
  | h + 1 => match fstN (tryF P lim pr v (layS P lim pr v may h).1 h) P.n with
    | some r => (fixM (layS P lim pr v may h).1 h r, up1 (layS P lim pr v may h).2 h r)
    | none => layS P lim pr v may h
section lay
variable {P : Pk} {lim v : Nat} {pr : Nat → Nat → Nat} {may : Nat → Nat}
theorem fixM_sbs (h r o : Nat) : sbs (fixM may h r o) (may o) := by
  unfold fixM
  split
  · exact sbs_refl _
  · exact sbs_sd _ _
theorem Rq_fix {S c h r : Nat} (hq : Rq P (fixM may h r) lim pr S c) : Rq P may lim pr S c :=
  Tw.mono _ _ _ (fun o b _ _ _ hok => ⟨⟨sbs_trans hok.1 (fixM_sbs h r o), hok.2⟩, rfl⟩) hq
theorem tryF_ex {h : Nat} (hh : h < P.hrs) (hv : lstO P may lim pr = some v) : ∃ r, r < P.n ∧ tryF P lim pr v may h r = true := by
  obtain ⟨h1, h2⟩ := minO_some.mp hv
  obtain ⟨r, hr', ⟨b, hb1, hb2⟩, hT⟩ := Tw.has (h := h) _ _ _ h1 (by rw [all_bit]; exact decide_eq_true hh)
  refine ⟨r, hr', ?_⟩
  unfold tryF
  refine @decide_eq_true _ (Classical.propDecidable _) ⟨sbs_iff.mp hb1.1 h hb2, minO_some.mpr ⟨?_, fun c hc => h2 c (Rq_fix hc)⟩⟩
  refine Tw.mono _ _ _ (fun o b' _ _ _ hok => ⟨⟨?_, hok.1.2⟩, rfl⟩) hT
  unfold fixM
  by_cases e : o = r
  · rw [if_pos e]; exact hok.1.1
  · rw [if_neg e]
    refine sbs_sd_iff.mpr ⟨hok.1.1, and_zero_iff.mpr fun i hi' => ?_⟩
    rw [bit_pow]
    refine decide_eq_false fun e2 => ?_
    subst e2
    rw [hok.2 e] at hi'
    cases hi'
theorem layS_step {h : Nat} (hh : h < P.hrs) (hv : lstO P (layS P lim pr v may h).1 lim pr = some v) : ∃ r, r < P.n ∧ tryF P lim pr v (layS P lim pr v may h).1 h r = true ∧ (∀ q, q < r → tryF P lim pr v (layS P lim pr v may h).1 h q = false) ∧ layS P lim pr v may (h + 1) = (fixM (layS P lim pr v may h).1 h r, up1 (layS P lim pr v may h).2 h r) := by
  obtain ⟨r0, hr0, ht0⟩ := tryF_ex hh hv
  cases hf : fstN (tryF P lim pr v (layS P lim pr v may h).1 h) P.n with
  | none => rw [fstN_none hf r0 hr0] at ht0; cases ht0
  | some r =>
    obtain ⟨a1, a2, a3⟩ := fstN_some hf
    refine ⟨r, a1, a2, a3, ?_⟩
    conv => lhs; unfold layS
    rw [hf]
theorem tryF_lst {m : Nat → Nat} {h r : Nat} (ht : tryF P lim pr v m h r = true) : lstO P (fixM m h r) lim pr = some v := (@of_decide_eq_true _ (Classical.propDecidable _) ht).2
theorem layS_inv (hv : lstO P may lim pr = some v) : ∀ h, h ≤ P.hrs → lstO P (layS P lim pr v may h).1 lim pr = some v := by
  intro h
  induction h with
  | zero => intro _; exact hv
  | succ h ih =>
    intro hh
    obtain ⟨r, -, ht, -, e⟩ := layS_step (by omega) (ih (by omega))
    rw [e]
    exact tryF_lst ht
theorem layS_sbs : ∀ h o, sbs ((layS P lim pr v may h).1 o) (may o) := by
  intro h
  induction h with
  | zero => intro o; exact sbs_refl _
  | succ h ih =>
    intro o
    unfold layS
    split
    · exact sbs_trans (fixM_sbs _ _ _) (ih o)
    · exact ih o
theorem layS_lt (hv : lstO P may lim pr = some v) : ∀ h, h ≤ P.hrs → ∀ k, k < h → (layS P lim pr v may h).2 k < P.n := by
  intro h
  induction h with
  | zero => intro _ k hk'; exact absurd hk' (Nat.not_lt_zero _)
  | succ h ih =>
    intro hh k hk'
    obtain ⟨r, hr', -, -, e⟩ := layS_step (by omega) (layS_inv hv h (by omega))
    rw [e]
    dsimp only
    unfold up1
    by_cases ek : k = h
    · rw [if_pos ek]; exact hr'
    · rw [if_neg ek]; exact ih (by omega) k (by omega)
/-- what each must have: nobody else may -/
def MustI (P : Pk) (may must : Nat → Nat) : Prop := (∀ r, sbs (must r) (2 ^ P.hrs - 1)) ∧ ∀ r o, r ≠ o → r < P.n → o < P.n → must r &&& may o = 0
theorem MustI.zero : MustI P may (fun _ => 0) := ⟨fun _ => sbs_zero _, fun _ _ _ _ _ => Nat.zero_and _⟩
theorem MustI.fix {must : Nat → Nat} (hm : MustI P may must) {h r : Nat} (hh : h < P.hrs) : MustI P (fixM may h r) (up1 must r (must r ||| 2 ^ h)) := by
  refine ⟨fun q => ?_, fun q o hqo hq ho => ?_⟩
  · unfold up1
    split
    · rename_i e
      refine sbs_or (hm.1 r) (sbs_pow ?_)
      rw [all_bit]; exact decide_eq_true hh
    · exact hm.1 q
  · unfold up1
    split
    · rename_i e
      subst e
      refine and_zero_iff.mpr fun i hi' => ?_
      unfold fixM
      rw [if_neg (fun z => hqo z.symm), sd_bit]
      rw [Nat.testBit_or, Bool.or_eq_true] at hi'
      rcases hi' with g | g
      · rw [and_zero_iff.mp (hm.2 q o hqo hq ho) i g]; rfl
      · rw [g]; simp
    · exact and_comm0.mp (sbs_mono0 (fixM_sbs h r o) (and_comm0.mp (hm.2 q o hqo hq ho)))
theorem MustI.less {must may' : Nat → Nat} (hm : MustI P may must) (h : ∀ o, sbs (may' o) (may o)) : MustI P may' must :=
  ⟨hm.1, fun r o hro hr' ho => and_comm0.mp (sbs_mono0 (h o) (and_comm0.mp (hm.2 r o hro hr' ho)))⟩
/-- with musts, and without -/
theorem Rq_must {must : Nat → Nat} (hm : MustI P may must) {c : Nat} : Rq P may lim pr (2 ^ P.hrs - 1) c ↔ Tw (fun r b => okC P.most may lim pr r b ∧ sbs (must r) b) (fun r b => prS (pr r) b) 0 P.n (2 ^ P.hrs - 1) c := by
  refine Tw.must _ _ _ (fun r _ _ => hm.1 r) (fun r o b _ hr' _ ho hro hok => ?_)
  exact sbs_mono0 hok.1 (and_comm0.mp (hm.2 r o hro (by omega) (by omega)))
theorem Tw.each {ok : Nat → Nat → Prop} {p : Nat → Nat → Nat} {i : Nat} : ∀ k S c, Tw ok p i k S c → ∀ r, i ≤ r → r < i + k → ∃ b, ok r b := by
  intro k
  induction k with
  | zero => intro S c _ r h1 h2; omega
  | succ k ih =>
    rintro S c ⟨b, c', g1, -, g3, -⟩ r h1 h2
    by_cases e : r = i + k
    · rw [e]; exact ⟨b, g1⟩
    · exact ih _ _ g3 r h1 (by omega)
theorem must_right {must : Nat → Nat} (hm : MustI P may must) {r : Nat} (hr' : r < P.n) (hv : lstO P may lim pr = some v) : sbs (must r) (may r) := by
  obtain ⟨h1, -⟩ := minO_some.mp hv
  obtain ⟨b, hb, hb2⟩ := Tw.each _ _ _ ((Rq_must hm).mp h1) r (Nat.zero_le _) (by omega)
  exact sbs_trans hb2 hb.1
theorem Rq_le {S c : Nat} (hp : ∀ r h, pr r h ≤ 999) (hq : Rq P may lim pr S c) : c ≤ 999 * pop S := Tw.bound _ _ _ (fun r b _ _ _ => prS_le (hp r)) hq
theorem lst_le (hp : ∀ r h, pr r h ≤ 999) (hv : lstO P may lim pr = some v) : v ≤ 7992 := by
  have := Rq_le hp (minO_some.mp hv).1
  have := pop_le (2 ^ P.hrs - 1)
  omega
end lay
