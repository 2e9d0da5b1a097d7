/-! PURE 84: all that stands between two calls -/
/-- static cells keep what is not said to be written; nodes are kept; at the most m cells more -/
def FrS (D F G : List Nat) (m : Nat) (σ τ : Hp) : Prop := (hn σ ≤ hn τ ∧ hn τ ≤ hn σ + m) ∧ (hu σ ≤ hu τ ∧ hu τ ≤ hu σ + 10 * m) ∧ NK σ τ ∧ ∀ a, a < 69 → ∀ i, (dn D F G a i = true → hi τ a i = hi σ a i ∧ hl τ a i = hl σ a i) ∧ (dn [] F G a i = true → a ≠ 14 → a ≠ 34 → hr τ a i = hr σ a i)
/-- other cells keep all; the places for horses too -/
def FrD (σ τ : Hp) : Prop := (hr τ 14 = hr σ 14 ∧ hr τ 34 = hr σ 34) ∧ ∀ a, 69 ≤ a → a < hn σ → hk τ a = hk σ a ∧ hi τ a = hi σ a ∧ hr τ a = hr σ a
section frs
variable {D F G D' F' G' : List Nat} {m m' : Nat} {σ τ υ : Hp}
theorem FrS.i (h : FrS D F G m σ τ) {a i : Nat} (ha : a < 69) (q : dn D F G a i = true) : hi τ a i = hi σ a i := ((h.2.2.2 a ha i).1 q).1
theorem FrS.l (h : FrS D F G m σ τ) {a i : Nat} (ha : a < 69) (q : dn D F G a i = true) : hl τ a i = hl σ a i := ((h.2.2.2 a ha i).1 q).2
theorem FrS.r (h : FrS D F G m σ τ) {a i : Nat} (ha : a < 69) (h14 : a ≠ 14) (h34 : a ≠ 34) (q : dn [] F G a i = true) : hr τ a i = hr σ a i := (h.2.2.2 a ha i).2 q h14 h34
theorem FrS.k (h : FrS D F G m σ τ) (hs : Sh σ) {a : Nat} (ha : a < 69) : hk τ a = hk σ a := (h.2.2.1.2 a (Nat.lt_of_lt_of_le ha hs.1)).1
theorem FrS.ok (h : FrS D F G m σ τ) (hs : Sh σ) {a c : Nat} (ha : a < 69) (ho : Ok σ a c) : Ok τ a c := ⟨Nat.lt_of_lt_of_le ho.1 h.1.1, by rw [h.k hs ha]; exact ho.2⟩
theorem FrS.sh (h : FrS D F G m σ τ) (hs : Sh σ) (hq : okS F G = true) : Sh τ := by
  refine ⟨Nat.le_trans hs.1 h.1.1, fun a ha => by rw [h.k hs ha]; exact hs.2.1 a ha, fun q hq' => ?_⟩
  have hsp : ∀ q ∈ sp0, q.1 < 69 ∧ q.1 ≠ 14 ∧ q.1 ≠ 34 := by decide
  obtain ⟨b1, b2', b3⟩ := hsp q hq'
  rw [h.r b1 b2' b3 (List.all_eq_true.mp hq q hq')]
  exact hs.2.2 q hq'
theorem FrS.trans (h : FrS D F G m σ τ) (g : FrS D F G m' τ υ) : FrS D F G (m + m') σ υ := by
  obtain ⟨⟨h1, h2⟩, ⟨h3, h4⟩, h5, h6⟩ := h
  obtain ⟨⟨g1, g2⟩, ⟨g3, g4⟩, g5, g6⟩ := g
  exact ⟨⟨by omega, by omega⟩, ⟨by omega, by omega⟩, h5.trans g5, fun a ha i => ⟨fun q => ⟨((g6 a ha i).1 q).1.trans ((h6 a ha i).1 q).1, ((g6 a ha i).1 q).2.trans ((h6 a ha i).1 q).2⟩, fun q z1 z2 => ((g6 a ha i).2 q z1 z2).trans ((h6 a ha i).2 q z1 z2)⟩⟩
theorem FrS.mono (h : FrS D F G m σ τ) (hs : sb D F G D' F' G' = true) (hm : m ≤ m') : FrS D' F' G' m' σ τ := by
  obtain ⟨⟨h1, h2⟩, ⟨h3, h4⟩, h5, h6⟩ := h
  exact ⟨⟨by omega, by omega⟩, ⟨by omega, by omega⟩, h5, fun a ha i => ⟨fun q => (h6 a ha i).1 (dn_mono hs q), fun q => (h6 a ha i).2 (dn_mono (sb_nil hs) q)⟩⟩
theorem Fr.frs (f : Fr D F G σ τ) (hs : Sh σ) (hD : okD D = true) : FrS D F G 0 σ τ := ⟨⟨Nat.le_of_eq f.1.symm, Nat.le_of_eq f.1⟩, ⟨Nat.le_of_eq f.2.1.symm, Nat.le_of_eq f.2.1⟩, f.nk hs hD, fun a _ i => ⟨(f.2.2.2 a i).1, fun q _ _ => (f.2.2.2 a i).2 q⟩⟩
theorem Fr.frd (f : Fr D F G σ τ) (hD : okD D = true) : FrD σ τ := ⟨⟨funext fun i => f.r (dn_out rfl (by decide) (by decide)), funext fun i => f.r (dn_out rfl (by decide) (by decide))⟩, fun a ha _ => ⟨by rw [f.k], funext fun i => f.i (dn_big hD ha), funext fun i => f.r (dn_nil (D := D) (dn_big hD ha))⟩⟩
theorem FrD.trans (h : FrD σ τ) (g : FrD τ υ) (hn' : hn σ ≤ hn τ) : FrD σ υ := ⟨⟨g.1.1.trans h.1.1, g.1.2.trans h.1.2⟩, fun a h1 h2 => by
  obtain ⟨a1, a2, a3⟩ := h.2 a h1 h2
  obtain ⟨b1, b2', b3⟩ := g.2 a h1 (Nat.lt_of_lt_of_le h2 hn')
  exact ⟨b1.trans a1, b2'.trans a2, b3.trans a3⟩⟩
theorem NR.frs (h : NR σ τ m) (hs : Sh σ) : FrS [] [11, 13] [] m σ τ := by
  refine ⟨h.1, ⟨h.2.1.1, by have := h.2.1.2; omega⟩, h.nk hs, fun a ha i => ?_⟩
  obtain ⟨a1, a2, a3, a4⟩ := h.2.2 a (Nat.lt_of_lt_of_le ha hs.1)
  refine ⟨fun q => ⟨a4 i (fun z => ?_), by rw [a3]⟩, fun _ _ _ => by rw [a2]⟩
  subst z
  constructor
  · rintro rfl; cases (show false = true from q)
  · rintro rfl; cases (show false = true from q)
theorem NR.frd (h : NR σ τ m) (hs : Sh σ) : FrD σ τ := ⟨⟨(h.2.2 14 (by have := hs.1; omega)).2.1, (h.2.2 34 (by have := hs.1; omega)).2.1⟩, fun a ha hb => by
  obtain ⟨a1, a2, a3, a4⟩ := h.2.2 a hb
  exact ⟨a1, funext fun i => a4 i (fun z => by omega), a2⟩⟩
theorem dn_st {a i : Nat} (hd : D.contains a = false) (h0 : a ≠ 0) (h37 : a ≠ 37) : dn D F G a i = true := dn_out hd h0 h37
theorem CP.frs {P : Pk} (h : CP σ P) (f : FrS D F G m σ τ) (h0 : (dn D F G 0 5 && dn D F G 0 6 && dn D F G 0 7 && dn D F G 0 21 && !D.contains 7 && !D.contains 8 && !D.contains 9) = true) : CP τ P := by
  simp only [Bool.and_eq_true, Bool.not_eq_true'] at h0
  obtain ⟨⟨⟨⟨⟨⟨h5, h6⟩, h7⟩, h21⟩, d7⟩, d8⟩, d9⟩ := h0
  refine ⟨(f.i (by decide) h5).trans h.1, (f.i (by decide) h6).trans h.2.1, (f.i (by decide) h7).trans h.2.2.1, fun r hr' => ?_, h.2.2.2.2.nk f.2.2.1 (f.r (by decide) (by decide) (by decide) (dn_nil h21))⟩
  rw [f.i (by decide) (dn_out d7 (by decide) (by decide)), f.i (by decide) (dn_out d8 (by decide) (by decide)), f.i (by decide) (dn_out d9 (by decide) (by decide))]
  exact h.2.2.2.1 r hr'
theorem CH.frs {a : HS} {s : Nat} (h : CH σ s a) (hs : Sh σ) (f : FrS D F G m σ τ) (h0 : s ≠ 0) (h69 : s < 34 ∧ s ≠ 14) (d0 : D.contains s = false) (d1 : D.contains (s + 1) = false) (d2 : D.contains (s + 2) = false) : CH τ s a := by
  obtain ⟨⟨q1, q2, q3, q4, q5, q6, q7⟩, q8, q9, q10, q11, q12, q13⟩ := h
  have e0 : ∀ i, dn D F G s i = true := fun i => dn_out d0 h0 (by omega)
  have e1 : ∀ i, dn D F G (s + 1) i = true := fun i => dn_out d1 (by omega) (by omega)
  have e2 : ∀ i, dn D F G (s + 2) i = true := fun i => dn_out d2 (by omega) (by omega)
  refine ⟨⟨f.ok hs (by omega) q1, (f.r (by omega) h69.2 (by omega) (dn_nil (e0 0))).trans q2, (f.r (by omega) h69.2 (by omega) (dn_nil (e0 1))).trans q3, f.ok hs (by omega) q4, by rw [f.k hs (by omega)]; exact q5, f.ok hs (by omega) q6, by rw [f.k hs (by omega)]; exact q7⟩, fun h hh => (f.i (by omega) (e1 h)).trans (q8 h hh), fun r hr' => (f.i (by omega) (e2 r)).trans (q9 r hr'), (f.i (by omega) (e0 2)).trans q10, (f.i (by omega) (e0 3)).trans q11, (f.i (by omega) (e0 4)).trans q12, (f.i (by omega) (e0 5)).trans q13⟩
theorem CX.frs {P : Pk} {a : HS} (x : CX σ P a) (f : FrS D F G m σ τ) (h : okCX D F G = true) : CX τ P a := by
  unfold okCX at h
  simp only [Bool.and_eq_true, Bool.not_eq_true'] at h
  obtain ⟨⟨⟨⟨⟨h1, h2⟩, h3⟩, d1⟩, d2⟩, d3⟩ := h
  exact ⟨f.sh x.1 h2, x.2.1.frs f (by simp only [Bool.and_eq_true, Bool.not_eq_true']; exact h3), x.2.2.1, x.2.2.2.1.frs x.1 f (by decide) ⟨by decide, by decide⟩ d1 d2 d3, x.2.2.2.2⟩
theorem CY.frs {P : Pk} (x : CY σ P) (f : FrS D F G m σ τ) (h : okCY D F G = true) : CY τ P := by
  unfold okCY at h
  simp only [Bool.and_eq_true, Bool.not_eq_true'] at h
  obtain ⟨⟨h1, h2⟩, h3⟩ := h
  exact ⟨f.sh x.1 h2, x.2.1.frs f (by simp only [Bool.and_eq_true, Bool.not_eq_true']; exact h3), x.2.2⟩
theorem SC.frs (h : SC σ) (f : FrS D F G m σ τ) (q : (dn D F G 0 42 && !D.contains 27) = true) : SC τ := by
  simp only [Bool.and_eq_true, Bool.not_eq_true'] at q
  exact ⟨(f.i (by decide) q.1).trans h.1, (f.i (by decide) (dn_out q.2 (by decide) (by decide))).trans h.2⟩
theorem FC.frs {W : FD} (h : FC σ W) (f : FrS D F G m σ τ) (q : (dn D F G 0 44 && !D.contains 31 && !D.contains 32 && !D.contains 33) = true) : FC τ W := by
  simp only [Bool.and_eq_true, Bool.not_eq_true'] at q
  obtain ⟨⟨⟨q1, q2⟩, q3⟩, q4⟩ := q
  refine ⟨(f.i (by decide) q1).trans h.1, fun k hk' => ?_⟩
  rw [f.i (by decide) (dn_out q2 (by decide) (by decide)), f.i (by decide) (dn_out q3 (by decide) (by decide)), f.i (by decide) (dn_out q4 (by decide) (by decide))]
  exact h.2 k hk'
theorem RowC.frs {l : List Int64} (h : RowC σ l) (f : FrS D F G m σ τ) (q : (dn D F G 0 52 && !D.contains 36) = true) : RowC τ l := by
  simp only [Bool.and_eq_true, Bool.not_eq_true'] at q
  exact ⟨(f.i (by decide) q.1).trans h.1, h.2.1, fun k hk' => (f.l (by decide) (dn_out q.2 (by decide) (by decide))).trans (h.2.2 k hk')⟩
end frs
/-- a text: how many signs; the signs -/
abbrev TX : Type := Nat × (Nat → Int32)
def TOK (T : TX) : Prop := T.1 ≤ 80 ∧ ∀ p, p < T.1 → ∃ k, k < 256 ∧ T.2 p = nI k
def TC (σ : Hp) (T : TX) : Prop := hi σ 0 10 = nI T.1 ∧ ∀ p, p < T.1 → hi σ 10 p = T.2 p
def TM (σ : Hp) (T : TX) : Prop := hi σ 37 8 = nI T.1 ∧ (∀ p, p < T.1 → T.2 p = hi σ 42 p &&& 255 ∧ (T.2 p < 128 → hi σ 42 p = T.2 p)) ∧ hr σ 37 18 = some 45 ∧ hr σ 37 19 = some 46
/-- what can be undone; what is kept, with the changes then -/
abbrev US : Type := Nat × (Nat → HS)
abbrev KS : Type := Nat → Option (HS × Int32)
/-- the class's places for horses: twelve to undo, two kept -/
def slt (σ : Hp) (i : Nat) : Option Nat := if i < 12 then hr σ 14 i else hr σ 34 (i - 12)
def KC (σ : Hp) (i : Nat) (o : Option (HS × Int32)) : Prop := match o with
  | none => hr σ 34 i = none
  | some b => (∃ s, hr σ 34 i = some s ∧ CH σ s b.1) ∧ hi σ 35 i = b.2
def KM (σ : Hp) (i : Nat) (o : Option (HS × Int32)) : Prop := match o with
  | none => hi σ 66 i = 0
  | some b => hi σ 66 i = 1 ∧ MH σ 65 (27 * i) b.1 ∧ hi σ 67 i = b.2
def SL (σ : Hp) : Prop := (∀ i, i < 14 → ∀ s, slt σ i = some s → 69 ≤ s ∧ HO σ s) ∧ ∀ i j s, i < 14 → j < 14 → slt σ i = some s → slt σ j = some s → i = j
def UC (σ : Hp) (U : US) (K : KS) : Prop := (hi σ 0 25 = nI U.1 ∧ U.1 ≤ 12) ∧ SL σ ∧ (∀ k, k < U.1 → ∃ s, hr σ 14 k = some s ∧ CH σ s (U.2 k)) ∧ ∀ i, i < 2 → KC σ i (K i)
def UM (σ : Hp) (U : US) (K : KS) : Prop := hi σ 37 24 = nI U.1 ∧ (∀ k, k < U.1 → MH σ 48 (27 * k) (U.2 k)) ∧ ∀ i, i < 2 → KM σ i (K i)
/-- parameters, horse, text, to undo, kept, findings, row, changes -/
abbrev VS : Type := Pk × HS × TX × US × KS × FD × List Int64 × Int32
def VS.P (V : VS) : Pk := V.1
def VS.a (V : VS) : HS := V.2.1
def VS.T (V : VS) : TX := V.2.2.1
def VS.U (V : VS) : US := V.2.2.2.1
def VS.K (V : VS) : KS := V.2.2.2.2.1
def VS.F (V : VS) : FD := V.2.2.2.2.2.1
def VS.w (V : VS) : List Int64 := V.2.2.2.2.2.2.1
def VS.ch (V : VS) : Int32 := V.2.2.2.2.2.2.2
def VOK (V : VS) : Prop := TOK V.T ∧ (V.U.1 ≤ 12 ∧ ∀ k, k < V.U.1 → HOK V.P.n (V.U.2 k)) ∧ (∀ i b, i < 2 → V.K i = some b → HOK V.P.n b.1) ∧ FOK V.P.n V.F
def CV (σ : Hp) (V : VS) : Prop := CX σ V.P V.a ∧ SC σ ∧ TC σ V.T ∧ UC σ V.U V.K ∧ FC σ V.F ∧ RowC σ V.w ∧ hi σ 0 8 = V.ch
def MW (σ : Hp) (V : VS) : Prop := MX σ V.P V.a ∧ SM σ ∧ TM σ V.T ∧ UM σ V.U V.K ∧ FM σ V.F ∧ RowM σ V.w ∧ hi σ 37 47 = V.ch
def setw (V : VS) (w : Option (List Int64)) : VS := (V.P, V.a, V.T, V.U, V.K, V.F, w.getD V.w, V.ch)
section view
variable {D F G : List Nat} {m m' : Nat} {σ τ υ : Hp} {V V' : VS} {P : Pk} {a : HS} {T : TX} {U : US} {K : KS} {W : FD} {l : List Int64}
theorem TC.frs (h : TC σ T) (f : FrS D F G m σ τ) (q : (dn D F G 0 10 && !D.contains 10) = true) : TC τ T := by
  simp only [Bool.and_eq_true, Bool.not_eq_true'] at q
  exact ⟨(f.i (by decide) q.1).trans h.1, fun p hp => (f.i (by decide) (dn_out q.2 (by decide) (by decide))).trans (h.2 p hp)⟩
theorem HO.frd {s : Nat} (h : HO σ s) (f : FrD σ τ) (hn' : hn σ ≤ hn τ) (hs : 69 ≤ s) : HO τ s := by
  obtain ⟨q1, q2, q3, q4, q5, q6, q7⟩ := h
  obtain ⟨a1, a2, a3⟩ := f.2 s hs q1.1
  obtain ⟨b1, b2', b3⟩ := f.2 (s + 1) (by omega) q4.1
  obtain ⟨c1, c2, c3⟩ := f.2 (s + 2) (by omega) q6.1
  exact ⟨⟨Nat.lt_of_lt_of_le q1.1 hn', by rw [a1]; exact q1.2⟩, by rw [a3]; exact q2, by rw [a3]; exact q3, ⟨Nat.lt_of_lt_of_le q4.1 hn', by rw [b1]; exact q4.2⟩, by rw [b1]; exact q5, ⟨Nat.lt_of_lt_of_le q6.1 hn', by rw [c1]; exact q6.2⟩, by rw [c1]; exact q7⟩
theorem CH.frd {s : Nat} (h : CH σ s a) (f : FrD σ τ) (hn' : hn σ ≤ hn τ) (hs : 69 ≤ s) : CH τ s a := by
  obtain ⟨ho, q8, q9, q10, q11, q12, q13⟩ := h
  obtain ⟨a1, a2, a3⟩ := f.2 s hs ho.1.1
  obtain ⟨b1, b2', b3⟩ := f.2 (s + 1) (by omega) ho.2.2.2.1.1
  obtain ⟨c1, c2, c3⟩ := f.2 (s + 2) (by omega) ho.2.2.2.2.2.1.1
  exact ⟨HO.frd ho f hn' hs, fun h hh => by rw [b2']; exact q8 h hh, fun h hh => by rw [c2]; exact q9 h hh, by rw [a2]; exact q10, by rw [a2]; exact q11, by rw [a2]; exact q12, by rw [a2]; exact q13⟩
theorem UC.frs (h : UC σ U K) (f : FrS D F G m σ τ) (g : FrD σ τ) (q : (dn D F G 0 25 && !D.contains 14 && !D.contains 34 && !D.contains 35) = true) : UC τ U K := by
  simp only [Bool.and_eq_true, Bool.not_eq_true'] at q
  obtain ⟨⟨⟨q1, q2⟩, q3⟩, q4⟩ := q
  obtain ⟨⟨h1, h12⟩, ⟨h2, h3⟩, h4, h5⟩ := h
  have r14 : ∀ i, hr τ 14 i = hr σ 14 i := fun i => by rw [g.1.1]
  have r34 : ∀ i, hr τ 34 i = hr σ 34 i := fun i => by rw [g.1.2]
  have i35 : ∀ i, hi τ 35 i = hi σ 35 i := fun i => f.i (by decide) (dn_out q4 (by decide) (by decide))
  have sl : ∀ i, slt τ i = slt σ i := fun i => by unfold slt; rw [r14, r34]
  refine ⟨⟨(f.i (by decide) q1).trans h1, h12⟩, ⟨fun i hi' s hs => ?_, fun i j s hi' hj e1 e2 => ?_⟩, fun k hk' => ?_, fun i hi' => ?_⟩
  · rw [sl] at hs
    obtain ⟨a1, a2⟩ := h2 i hi' s hs
    exact ⟨a1, a2.frd g f.1.1 a1⟩
  · rw [sl] at e1 e2; exact h3 i j s hi' hj e1 e2
  · obtain ⟨s, a1, a2⟩ := h4 k hk'
    exact ⟨s, by rw [r14]; exact a1, a2.frd g f.1.1 (h2 k (by omega) s (by unfold slt; rw [if_pos (by omega)]; exact a1)).1⟩
  · have := h5 i hi'
    unfold KC at this ⊢
    cases hK : K i with
    | none => rw [hK] at this; dsimp only at this ⊢; rw [r34]; exact this
    | some b =>
      rw [hK] at this
      dsimp only at this ⊢
      obtain ⟨⟨s, a1, a2⟩, a3⟩ := this
      refine ⟨⟨s, by rw [r34]; exact a1, a2.frd g f.1.1 (h2 (i + 12) (by omega) s (by unfold slt; rw [if_neg (by omega), Nat.add_sub_cancel]; exact a1)).1⟩, by rw [i35]; exact a3⟩
theorem RM.frs {o : Option RE} (h : RM σ o) (f : FrS D F G m σ τ) (h0 : (dn D F G 37 18 && dn D F G 37 20 && !D.contains 45 && !D.contains 46) = true) : RM τ o := by
  simp only [Bool.and_eq_true, Bool.not_eq_true'] at h0
  obtain ⟨⟨⟨h18, h20⟩, d45⟩, d46⟩ := h0
  cases o with
  | none => exact (f.i (by decide) h20).trans h
  | some E =>
    obtain ⟨b, len, c, hb, q1, q2, q3, q4, ⟨q5, q6⟩, q7⟩ := h
    have db : D.contains b = false := by rcases hb with rfl | rfl; exact d45; exact d46
    refine ⟨b, len, c, hb, (f.r (by decide) (by decide) (by decide) (dn_nil h18)).trans q1, (f.i (by decide) h20).trans q2, q3, q4, ⟨q5, fun p hp => ?_⟩, q7⟩
    rw [f.i (show b < 69 by omega) (dn_out db (by omega) (by omega))]
    exact q6 p hp
theorem MP.frs (h : MP σ P) (f : FrS D F G m σ τ) (h0 : (dn D F G 37 3 && dn D F G 37 1 && dn D F G 37 2 && !D.contains 39 && !D.contains 40 && !D.contains 41 && (dn D F G 37 18 && dn D F G 37 20 && !D.contains 45 && !D.contains 46)) = true) : MP τ P := by
  rw [Bool.and_eq_true] at h0
  obtain ⟨h0, h9⟩ := h0
  simp only [Bool.and_eq_true, Bool.not_eq_true'] at h0
  obtain ⟨⟨⟨⟨⟨h3, h1⟩, h2⟩, d39⟩, d40⟩, d41⟩ := h0
  refine ⟨(f.i (by decide) h3).trans h.1, (f.i (by decide) h1).trans h.2.1, (f.i (by decide) h2).trans h.2.2.1, fun r hr' => ?_, h.2.2.2.2.frs f h9⟩
  rw [f.i (by decide) (dn_out d39 (by decide) (by decide)), f.i (by decide) (dn_out d40 (by decide) (by decide)), f.i (by decide) (dn_out d41 (by decide) (by decide))]
  exact h.2.2.2.1 r hr'
theorem MH.frs {t k : Nat} (h : MH σ t k a) (f : FrS D F G m σ τ) (h69 : t < 69) (h0 : t ≠ 0) (h37 : t ≠ 37) (d0 : D.contains t = false) : MH τ t k a := by
  have e0 : ∀ i, hi τ t i = hi σ t i := fun i => f.i h69 (dn_out d0 h0 h37)
  obtain ⟨q1, q2, q3, q4, q5, q6⟩ := h
  exact ⟨fun i hi' => (e0 _).trans (q1 i hi'), fun i hi' => (e0 _).trans (q2 i hi'), fun i hi' => (e0 _).trans (q3 i hi'), (e0 _).trans q4, (e0 _).trans q5, (e0 _).trans q6⟩
theorem MX.frs (x : MX σ P a) (f : FrS D F G m σ τ) (h : okMX D F G = true) : MX τ P a := by
  unfold okMX at h
  simp only [Bool.and_eq_true, Bool.not_eq_true'] at h
  obtain ⟨⟨h2, h3⟩, d1⟩ := h
  exact ⟨f.sh x.1 h2, x.2.1.frs f (by simp only [Bool.and_eq_true, Bool.not_eq_true']; exact h3), x.2.2.1, x.2.2.2.1.frs f (by decide) (by decide) (by decide) d1, x.2.2.2.2⟩
theorem TM.frs (h : TM σ T) (f : FrS D F G m σ τ) (q : (dn D F G 37 8 && !D.contains 42 && dn D F G 37 18 && dn D F G 37 19) = true) : TM τ T := by
  simp only [Bool.and_eq_true, Bool.not_eq_true'] at q
  obtain ⟨⟨⟨q1, q2⟩, q3⟩, q4⟩ := q
  refine ⟨(f.i (by decide) q1).trans h.1, fun p hp => ?_, (f.r (by decide) (by decide) (by decide) (dn_nil q3)).trans h.2.2.1, (f.r (by decide) (by decide) (by decide) (dn_nil q4)).trans h.2.2.2⟩
  rw [f.i (by decide) (dn_out q2 (by decide) (by decide))]
  exact h.2.1 p hp
theorem UM.frs (h : UM σ U K) (f : FrS D F G m σ τ) (q : (dn D F G 37 24 && !D.contains 48 && !D.contains 65 && !D.contains 66 && !D.contains 67) = true) : UM τ U K := by
  simp only [Bool.and_eq_true, Bool.not_eq_true'] at q
  obtain ⟨⟨⟨⟨q1, q2⟩, q3⟩, q4⟩, q5⟩ := q
  refine ⟨(f.i (by decide) q1).trans h.1, fun k hk' => (h.2.1 k hk').frs f (by decide) (by decide) (by decide) q2, fun i hi' => ?_⟩
  have := h.2.2 i hi'
  unfold KM at this ⊢
  cases hK : K i with
  | none => rw [hK] at this; dsimp only at this ⊢; rw [f.i (by decide) (dn_out q4 (by decide) (by decide))]; exact this
  | some b =>
    rw [hK] at this
    dsimp only at this ⊢
    rw [f.i (by decide) (dn_out q4 (by decide) (by decide)), f.i (by decide) (dn_out q5 (by decide) (by decide))]
    exact ⟨this.1, this.2.1.frs f (by decide) (by decide) (by decide) q3, this.2.2⟩
theorem FM.frs (h : FM σ W) (f : FrS D F G m σ τ) (q : (dn D F G 37 45 && dn D F G 37 44 && !D.contains 63 && !D.contains 64) = true) : FM τ W := by
  simp only [Bool.and_eq_true, Bool.not_eq_true'] at q
  obtain ⟨⟨⟨q1, q2⟩, q3⟩, q4⟩ := q
  obtain ⟨h1, h2, b, h3, h4, h5⟩ := h
  refine ⟨(f.i (by decide) q1).trans h1, fun k hk' => ?_, b, h3, (f.i (by decide) q2).trans h4, h5⟩
  rw [f.i (by decide) (dn_out q3 (by decide) (by decide)), f.i (by decide) (dn_out q4 (by decide) (by decide))]
  exact h2 k hk'
theorem RowM.frs (h : RowM σ l) (f : FrS D F G m σ τ) (q : (dn D F G 37 10 && !D.contains 43) = true) : RowM τ l := by
  simp only [Bool.and_eq_true, Bool.not_eq_true'] at q
  exact ⟨(f.i (by decide) q.1).trans h.1, h.2.1, fun k hk' => (f.l (by decide) (dn_out q.2 (by decide) (by decide))).trans (h.2.2 k hk')⟩
theorem SM.frs (h : SM σ) (f : FrS D F G m σ τ) (q : dn D F G 37 39 = true) : SM τ := (f.i (by decide) q).trans h
/-! the class's view, the reference's, under what is written elsewhere -/
def qT (D F G : List Nat) : Bool := dn D F G 0 10 && !D.contains 10
def qU (D F G : List Nat) : Bool := dn D F G 0 25 && !D.contains 14 && !D.contains 34 && !D.contains 35
def qF (D F G : List Nat) : Bool := dn D F G 0 44 && !D.contains 31 && !D.contains 32 && !D.contains 33
def qS (D F G : List Nat) : Bool := dn D F G 0 42 && !D.contains 27
def qR (D F G : List Nat) : Bool := dn D F G 0 52 && !D.contains 36
def okCV (D F G : List Nat) : Bool := okCX D F G && (qS D F G && (qT D F G && (qU D F G && (qF D F G && dn D F G 0 8))))
def okMV (D F G : List Nat) : Bool := okMX D F G && (dn D F G 37 39 && ((dn D F G 37 8 && !D.contains 42 && dn D F G 37 18 && dn D F G 37 19) && ((dn D F G 37 24 && !D.contains 48 && !D.contains 65 && !D.contains 66 && !D.contains 67) && ((dn D F G 37 45 && dn D F G 37 44 && !D.contains 63 && !D.contains 64) && dn D F G 37 47))))
def oRM (D F G : List Nat) : Bool := dn D F G 37 10 && !D.contains 43
theorem CV.frs (h : CV σ V) (f : FrS D F G m σ τ) (g : FrD σ τ) (q : (okCV D F G && qR D F G) = true) : CV τ V := by
  rw [Bool.and_eq_true] at q
  obtain ⟨q, qr⟩ := q
  unfold okCV at q
  rw [Bool.and_eq_true, Bool.and_eq_true, Bool.and_eq_true, Bool.and_eq_true, Bool.and_eq_true] at q
  obtain ⟨q1, q2, q3, q4, q5, q6⟩ := q
  obtain ⟨h1, h2, h3, h4, h5, h6, h7⟩ := h
  exact ⟨h1.frs f q1, h2.frs f q2, h3.frs f q3, h4.frs f g q4, h5.frs f q5, h6.frs f qr, (f.i (by decide) q6).trans h7⟩
theorem an2 {a b : Bool} (h : (a && b) = true) : a = true ∧ b = true := by cases a <;> cases b <;> first | exact ⟨rfl, rfl⟩ | cases h
theorem MW.frs (h : MW σ V) (f : FrS D F G m σ τ) (q : (okMV D F G && oRM D F G) = true) : MW τ V := by
  obtain ⟨q, qr⟩ := an2 q
  unfold okMV at q
  obtain ⟨q1, q⟩ := an2 q
  obtain ⟨q2, q⟩ := an2 q
  obtain ⟨q3, q⟩ := an2 q
  obtain ⟨q4, q⟩ := an2 q
  obtain ⟨q5, q6⟩ := an2 q
  obtain ⟨h1, h2, h3, h4, h5, h6, h7⟩ := h
  exact ⟨h1.frs f q1, h2.frs f q2, h3.frs f q3, h4.frs f q4, h5.frs f q5, h6.frs f qr, (f.i (by decide) q6).trans h7⟩
/-- after a question to the class -/
theorem CV.qu {r x : Int32} {w : Option (List Int64)} (h : CV σ V) (q : QuC σ r w x τ) : x = r ∧ CV τ (setw V w) ∧ FrS CD CF [] 0 σ τ := by
  obtain ⟨e, f, s, rw'⟩ := q
  obtain ⟨h1, h2, h3, h4, h5, h6, h7⟩ := h
  have fs : FrS CD CF [] 0 σ τ := f.frs h1.s rfl
  refine ⟨e, ⟨h1.fr f rfl, s, h3.frs fs rfl, h4.frs fs (f.frd rfl) rfl, h5.frs fs rfl, ?_, (f.i rfl).trans h7⟩, fs⟩
  cases w with
  | none =>
    obtain ⟨r1, r2⟩ := rw'
    exact ⟨r1.trans h6.1, h6.2.1, fun k hk' => (r2 k).trans (h6.2.2 k hk')⟩
  | some l => exact rw'
theorem MW.qu {r x : Int32} {w : Option (List Int64)} (h : MW σ V) (q : QuM σ r w x τ) : x = r ∧ MW τ (setw V w) ∧ FrS MD [] MG 0 σ τ ∧ FrD σ τ := by
  obtain ⟨e, f, s, rw'⟩ := q
  obtain ⟨h1, h2, h3, h4, h5, h6, h7⟩ := h
  have fs : FrS MD [] MG 0 σ τ := f.frs h1.s rfl
  refine ⟨e, ⟨h1.fr f rfl, s, h3.frs fs rfl, h4.frs fs rfl, h5.frs fs rfl, ?_, (f.i rfl).trans h7⟩, fs, f.frd rfl⟩
  cases w with
  | none =>
    obtain ⟨r1, r2⟩ := rw'
    exact ⟨r1.trans h6.1, h6.2.1, fun k hk' => (r2 k).trans (h6.2.2 k hk')⟩
  | some l => exact rw'
/-- a mutator: the class's, the reference's -/
def GoC (σ : Hp) (m : Nat) (r : Int32) (V' : VS) (x : Int32) (τ : Hp) : Prop := x = r ∧ CV τ V' ∧ ∃ D F, FrS D F [] m σ τ ∧ (okMV D F [] && oRM D F []) = true
def GoM (σ : Hp) (r : Int32) (V' : VS) (x : Int32) (τ : Hp) : Prop := x = r ∧ MW τ V' ∧ ∃ D G, Fr D [] G σ τ ∧ (okD D && (okCV D [] G && qR D [] G)) = true
theorem GoM.cv {r x : Int32} (h : CV σ V) (q : GoM σ r V' x τ) : CV τ V := by
  obtain ⟨-, -, D, G, f, q⟩ := q
  rw [Bool.and_eq_true] at q
  exact h.frs (f.frs h.1.s q.1) (f.frd q.1) q.2
theorem GoC.mv {r x : Int32} (h : MW σ V) (q : GoC σ m r V' x τ) : MW τ V := by
  obtain ⟨-, -, D, F, f, q⟩ := q
  exact h.frs f q
end view
