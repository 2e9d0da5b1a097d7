/-! PURE 87: horses put by (the class) -/
def psh (U : US) (a : HS) : US := if U.1 = 12 then (11 + 1, up1 (fun k => U.2 (k + 1)) 11 a) else (U.1 + 1, up1 U.2 U.1 a)
theorem psh_le {U : US} {a : HS} (h : U.1 ≤ 12) : (psh U a).1 ≤ 12 := by
  unfold psh
  split
  · exact Nat.le_refl _
  · show U.1 + 1 ≤ 12; omega
theorem psh_ok {U : US} {a : HS} {n : Nat} (h : ∀ k, k < U.1 → HOK n (U.2 k)) (ha : HOK n a) : ∀ k, k < (psh U a).1 → HOK n ((psh U a).2 k) := by
  unfold psh
  split
  · rename_i e
    intro k hk'
    have hk2 : k < 12 := hk'
    show HOK n (up1 (fun k => U.2 (k + 1)) 11 a k)
    unfold up1
    by_cases c : k = 11
    · rw [if_pos c]; exact ha
    · rw [if_neg c]; exact h (k + 1) (by omega)
  · intro k hk'
    have hk2 : k < U.1 + 1 := hk'
    show HOK n (up1 U.2 U.1 a k)
    unfold up1
    by_cases c : k = U.1
    · rw [if_pos c]; exact ha
    · rw [if_neg c]; exact h k (by omega)
/-- a new horse -/
def NW (σ τ : Hp) : Prop := (hn τ = hn σ + 3 ∧ hu τ = hu σ + 22) ∧ (∀ b, b < hn σ → hk τ b = hk σ b ∧ hi τ b = hi σ b ∧ hl τ b = hl σ b ∧ hr τ b = hr σ b) ∧ HO τ (hn σ)
section puts
variable {σ τ υ : Hp} {V : VS} {U : US} {K : KS} {a : HS} {s t : Nat}
theorem wp_sR {β : Type} {P : β → Hp → Prop} {a : Nat} {i : Int32} {v : Option Nat} {K : Hp → Option (β × Hp)} (hv : ∀ b, v = some b → Ok σ b 1) : wp (sR σ (some a) i v K) P ↔ (Ok σ a 104 ∧ inb i (hk σ a).2) ∧ wp (K (wR σ a (ix i) v)) P := by
  cases v with
  | none =>
    show wp (ar 104 σ (some a) i fun a j => K (wR σ a j none)) P ↔ _
    exact wp_ar
  | some b =>
    unfold sR
    dsimp only
    rw [if_pos (show b < hn σ ∧ (hk σ b).1 = 1 from hv b rfl)]
    exact wp_ar
theorem nw_kd {k m : Nat} : hk (nw σ k m) (hn σ) = (k, m) := by
  show (if hn σ = hn σ then (k, m) else _) = _
  rw [if_pos rfl]
theorem nw_kn {k m b : Nat} (h : b ≠ hn σ) : hk (nw σ k m) b = hk σ b := if_neg (show ¬ b = σ.1 from h)
theorem nw_hl {k m b : Nat} (h : b ≠ hn σ) : hl (nw σ k m) b = hl σ b := funext fun j => if_neg (show ¬ b = σ.1 from h)
theorem wp_nA {β : Type} {P : β → Hp → Prop} {t : Nat} {n : Int32} {K : Option Nat → Hp → Option (β × Hp)} (h : ¬ n < 0 ∧ n.toNatClampNeg ≤ 65536) : wp (nA t σ n K) P ↔ wp (K (some (hn σ)) (nw σ t n.toNatClampNeg)) P := by
  unfold nA
  rw [if_pos h]
theorem c_newHorse : wp (f_X2_init (some (hn σ)) (nw σ 1 6)) (fun _ τ => NW σ τ) := by
  have hc : (¬ (8 : Int32) < 0 ∧ (8 : Int32).toNatClampNeg ≤ 65536) := by decide
  have e8 : (8 : Int32).toNatClampNeg = 8 := rfl
  unfold f_X2_init
  rw [wp_nn, wp_nA hc, e8, show hn (nw σ 1 6) = hn σ + 1 from rfl]
  generalize hν : nw (nw σ 1 6) 100 8 = ν
  have k1 : hk ν (hn σ + 1) = (100, 8) := by rw [← hν]; exact nw_kd (σ := nw σ 1 6)
  have k0 : hk ν (hn σ) = (1, 6) := by rw [← hν, nw_kn (show hn σ ≠ hn σ + 1 by omega), nw_kd]
  have n0 : hn ν = hn σ + 2 := by rw [← hν]; rfl
  have u0 : hu ν = hu σ + 6 + 8 := by rw [← hν]; rfl
  have kb : ∀ b, b < hn σ → hk ν b = hk σ b ∧ hi ν b = hi σ b ∧ hl ν b = hl σ b ∧ hr ν b = hr σ b := fun b hb => by
    have h1 : b ≠ hn (nw σ 1 6) := by show b ≠ hn σ + 1; omega
    have h2 : b ≠ hn σ := by omega
    rw [← hν]
    exact ⟨by rw [nw_kn h1, nw_kn h2], by rw [nw_hi h1, nw_hi h2], by rw [nw_hl h1, nw_hl h2], by rw [nw_hr h1, nw_hr h2]⟩
  have o1 : Ok ν (hn σ + 1) 100 := ⟨by omega, by rw [k1]⟩
  have o0 : Ok ν (hn σ) 1 := ⟨by omega, by rw [k0]⟩
  have ib : ∀ j, j < 8 → inb (nI j) (hk ν (hn σ + 1)).2 := fun j hj => by rw [k1, inb_nI (by omega)]; exact hj
  have b0 : inb 0 (hk ν (hn σ + 1)).2 := ib 0 (by decide)
  have b1 : inb 1 (hk ν (hn σ + 1)).2 := ib 1 (by decide)
  have b2' : inb 2 (hk ν (hn σ + 1)).2 := ib 2 (by decide)
  have b3 : inb 3 (hk ν (hn σ + 1)).2 := ib 3 (by decide)
  have b4 : inb 4 (hk ν (hn σ + 1)).2 := ib 4 (by decide)
  have b5 : inb 5 (hk ν (hn σ + 1)).2 := ib 5 (by decide)
  have b6 : inb 6 (hk ν (hn σ + 1)).2 := ib 6 (by decide)
  have b7 : inb 7 (hk ν (hn σ + 1)).2 := ib 7 (by decide)
  simp only [wp_sI, Ok_wI, hk_wI, o1, b0, b1, b2', b3, b4, b5, b6, b7, and_true, true_and]
  generalize hω : wI (wI (wI (wI (wI (wI (wI (wI ν (hn σ + 1) (ix 0) (-1)) (hn σ + 1) (ix 1) (-1)) (hn σ + 1) (ix 2) (-1)) (hn σ + 1) (ix 3) (-1)) (hn σ + 1) (ix 4) (-1)) (hn σ + 1) (ix 5) (-1)) (hn σ + 1) (ix 6) (-1)) (hn σ + 1) (ix 7) (-1) = ω
  have wn : hn ω = hn ν := by rw [← hω]; rfl
  have wu : hu ω = hu ν := by rw [← hω]; rfl
  have wk : hk ω = hk ν := by rw [← hω]; rfl
  have wl : hl ω = hl ν := by rw [← hω]; rfl
  have wr : hr ω = hr ν := by rw [← hω]; rfl
  have wi : ∀ b, b < hn σ → hi ω b = hi ν b := fun b hb => by
    have h1 : b ≠ hn σ + 1 := by omega
    rw [← hω, hi_ne h1, hi_ne h1, hi_ne h1, hi_ne h1, hi_ne h1, hi_ne h1, hi_ne h1, hi_ne h1]
  rw [wp_pR]
  refine ⟨⟨by rw [wn]; exact o0.1, by rw [wk]; exact o0.2⟩, ?_⟩
  have n2 : hn (wR ω (hn σ) 0 (some (hn σ + 1))) = hn σ + 2 := by show hn ω = _; rw [wn, n0]
  rw [wp_nA hc, e8, n2]
  generalize hψ : nw (wR ω (hn σ) 0 (some (hn σ + 1))) 100 8 = ψ
  have pn : hn ψ = hn σ + 3 := by rw [← hψ]; show hn (wR ω (hn σ) 0 (some (hn σ + 1))) + 1 = _; rw [n2]
  have pu : hu ψ = hu σ + 22 := by rw [← hψ]; show hu ω + 8 = _; rw [wu, u0]
  have pk : ∀ b, b ≠ hn σ + 2 → hk ψ b = hk ν b := fun b hb => by rw [← hψ, nw_kn (by rw [n2]; exact hb)]; show hk ω b = _; rw [wk]
  have pk2 : hk ψ (hn σ + 2) = (100, 8) := by rw [← hψ, ← n2, nw_kd]
  have pr : ∀ b, b ≠ hn σ + 2 → hr ψ b = hr (wR ω (hn σ) 0 (some (hn σ + 1))) b := fun b hb => by rw [← hψ, nw_hr (by rw [n2]; exact hb)]
  rw [wp_pR]
  refine ⟨⟨by omega, by rw [pk _ (by omega), k0]⟩, ?_⟩
  rw [wp_some]
  refine ⟨⟨pn, pu⟩, fun b hb => ?_, ⟨by show hn σ < hn ψ; omega, by show (hk ψ (hn σ)).1 = 1; rw [pk _ (by omega), k0]⟩, ?_, hr_eq, ⟨by show hn σ + 1 < hn ψ; omega, by show (hk ψ (hn σ + 1)).1 = 100; rw [pk _ (by omega), k1]⟩, ?_, ⟨by show hn σ + 2 < hn ψ; omega, by show (hk ψ (hn σ + 2)).1 = 100; rw [pk2]⟩, ?_⟩
  · obtain ⟨q1, q2, q3, q4⟩ := kb b hb
    refine ⟨?_, ?_, ?_, ?_⟩
    · show hk ψ b = _
      rw [pk _ (by omega), q1]
    · show hi ψ b = _
      rw [← hψ, nw_hi (by rw [n2]; omega)]
      show hi ω b = _
      rw [wi b hb, q2]
    · show hl ψ b = _
      rw [← hψ, nw_hl (by rw [n2]; omega)]
      show hl ω b = _
      rw [wl, q3]
    · rw [hr_ne (by omega), pr _ (by omega), hr_ne (by omega), wr, q4]
  · rw [hr_ni (by decide), pr _ (by omega), hr_eq]
  · show (hk ψ (hn σ + 1)).2 = 8
    rw [pk _ (by omega), k1]
  · show (hk ψ (hn σ + 2)).2 = 8
    rw [pk2]
theorem NW.frs (h : NW σ τ) (hs : Sh σ) : FrS [] [] [] 3 σ τ := by
  obtain ⟨⟨h1, h2⟩, h3, h4⟩ := h
  refine ⟨⟨by omega, by omega⟩, ⟨by omega, by omega⟩, ⟨by omega, fun b hb => ?_⟩, fun a ha i => ?_⟩
  · obtain ⟨q1, q2, q3, q4⟩ := h3 b hb
    exact ⟨q1, fun _ _ => ⟨q2, q4⟩⟩
  · obtain ⟨q1, q2, q3, q4⟩ := h3 a (Nat.lt_of_lt_of_le ha hs.1)
    exact ⟨fun _ => ⟨by rw [q2], by rw [q3]⟩, fun _ _ _ => by rw [q4]⟩
theorem NW.frd (h : NW σ τ) (hs : Sh σ) : FrD σ τ := ⟨⟨(h.2.1 14 (by have := hs.1; omega)).2.2.2, (h.2.1 34 (by have := hs.1; omega)).2.2.2⟩, fun a _ hb => by
  obtain ⟨q1, q2, q3, q4⟩ := h.2.1 a hb
  exact ⟨q1, q2, q4⟩⟩
/-- a horse's three cells written: what is static is kept -/
theorem Bec.frs (h : Bec σ τ t) (hs : Sh σ) (ht : 69 ≤ t) (ho : HO σ t) : FrS [] [] [] 0 σ τ := by
  obtain ⟨h1, h2, h3, h4, h5, h6⟩ := h
  refine ⟨⟨by omega, by omega⟩, ⟨by omega, by omega⟩, ⟨by omega, fun b hb => ⟨by rw [h3], fun k3 k6 => ⟨h6 b ?_ ?_ ?_, by rw [h4]⟩⟩⟩, fun a ha i => ⟨fun _ => ⟨by rw [h6 a (by omega) (by omega) (by omega)], by rw [h5]⟩, fun _ _ _ => by rw [h4]⟩⟩
  · rintro rfl; have := ho.1.2; omega
  · rintro rfl; have := ho.2.2.2.1.2; omega
  · rintro rfl; have := ho.2.2.2.2.2.1.2; omega
/-- two horses share no cell -/
theorem ho_far (h : HO σ s) (g : HO σ t) (hne : s ≠ t) : s + 2 < t ∨ t + 2 < s := by
  obtain ⟨q1, q2, q3, q4, q5, q6, q7⟩ := h
  obtain ⟨p1, p2, p3, p4, p5, p6, p7⟩ := g
  have a1 : s ≠ t + 1 := by rintro rfl; have := q1.2; have := p4.2; omega
  have a2 : s ≠ t + 2 := by rintro rfl; have := q1.2; have := p6.2; omega
  have a3 : t ≠ s + 1 := by rintro rfl; have := p1.2; have := q4.2; omega
  have a4 : t ≠ s + 2 := by rintro rfl; have := p1.2; have := q6.2; omega
  omega
theorem Bec.ho (h : Bec σ τ t) (g : HO σ s) : HO τ s := by
  obtain ⟨h1, h2, h3, h4, h5, h6⟩ := h
  obtain ⟨q1, q2, q3, q4, q5, q6, q7⟩ := g
  exact ⟨⟨by rw [h1]; exact q1.1, by rw [h3]; exact q1.2⟩, by rw [h4]; exact q2, by rw [h4]; exact q3, ⟨by rw [h1]; exact q4.1, by rw [h3]; exact q4.2⟩, by rw [h3]; exact q5, ⟨by rw [h1]; exact q6.1, by rw [h3]; exact q6.2⟩, by rw [h3]; exact q7⟩
theorem Bec.ch (h : Bec σ τ t) (g : CH σ s a) (ht : HO σ t) (hne : s ≠ t) : CH τ s a := by
  have hf := ho_far g.1 ht hne
  have hb := h
  obtain ⟨h1, h2, h3, h4, h5, h6⟩ := h
  obtain ⟨q1, q8, q9, q10, q11, q12, q13⟩ := g
  have e0 := h6 s (by omega) (by omega) (by omega)
  have e1 := h6 (s + 1) (by omega) (by omega) (by omega)
  have e2 := h6 (s + 2) (by omega) (by omega) (by omega)
  exact ⟨hb.ho q1, fun j hj => by rw [e1]; exact q8 j hj, fun j hj => by rw [e2]; exact q9 j hj, by rw [e0]; exact q10, by rw [e0]; exact q11, by rw [e0]; exact q12, by rw [e0]; exact q13⟩
/-- slots as they stand, before the horse at place k is written -/
def UX (σ : Hp) (U : US) (K : KS) : Prop := SL σ ∧ (∀ k, k < U.1 → k < 12 → ∃ s, hr σ 14 k = some s ∧ CH σ s (U.2 k)) ∧ ∀ i, i < 2 → KC σ i (K i)
/-- the rest of putsBy: at place m, at the most 11 -/
theorem c_putsAt (hs : Sh σ) {m : Nat} (hm : m ≤ 11) (e25 : hi σ 0 25 = nI m) (u : UX σ (m, U.2) K) (ha : CH σ s a) (hs1 : s = 1 ∨ s = 15) : wp (gR 0 23 σ (some 0) fun y4 => gI 0 25 σ (some 0) fun x5 => lR σ y4 x5 fun y6 =>
      jn (fun (a7 : Unit) σ => gR 0 23 σ (some 0) fun y9 => gI 0 25 σ (some 0) fun x10 => lR σ y9 x10 fun y11 =>
          ob 1 σ y11 fun _ => bnd (f_X2_becomes y11 (some s) σ) fun _ σ => gI 0 25 σ (some 0) fun x12 => pI 0 0 25 σ (some 0) (x12 + 1) fun σ => some ((), σ)) fun j8 =>
      nul y6 (gR 0 23 σ (some 0) fun y13 => gI 0 25 σ (some 0) fun x14 => nO 1 6 σ fun y15 σ => nn y15 <| bnd (f_X2_init y15 σ) fun _ σ => sR σ y13 x14 y15 fun σ => j8 () σ) (j8 () σ)) (fun _ τ => FrS [] [25] [] 3 σ τ ∧ UC τ (m + 1, up1 U.2 m a) K) := by
  have h69 := hs.1
  have hs69 : s < 69 := by omega
  -- the end, from a heap where the place holds a horse
  have fin : ∀ (ω : Hp) (t : Nat), Sh ω → FrS [] [] [] 3 σ ω → hi ω 0 25 = nI m → UX ω (m, U.2) K → hr ω 14 m = some t → CH ω s a → wp (gR 0 23 ω (some 0) fun y9 => gI 0 25 ω (some 0) fun x10 => lR ω y9 x10 fun y11 => ob 1 ω y11 fun _ => bnd (f_X2_becomes y11 (some s) ω) fun _ σ => gI 0 25 σ (some 0) fun x12 => pI 0 0 25 σ (some 0) (x12 + 1) fun σ => some ((), σ)) (fun _ τ => FrS [] [25] [] 3 σ τ ∧ UC τ (m + 1, up1 U.2 m a) K) := by
    intro ω t hω f0 w25 uω r14 haω
    obtain ⟨⟨sl1, sl2⟩, u2, u3⟩ := uω
    have slm : slt ω m = some t := by unfold slt; rw [if_pos (by omega)]; exact r14
    obtain ⟨t69, hot⟩ := sl1 m (by omega) t slm
    rw [wp_gR, sp_0_23 hω]
    refine ⟨so_0 hω, ?_⟩
    rw [wp_gI, w25]
    refine ⟨so_0 hω, ?_⟩
    rw [wp_lR, ix_nI (by omega), sl_14 hω, inb_nI (by omega), r14]
    refine ⟨⟨so_14 hω, by omega⟩, ?_⟩
    rw [wp_ob]
    refine ⟨hot.1, ?_⟩
    rw [wp_bnd]
    refine wp_mono (c_becomes hot haω (Or.inl (by omega))) (fun _ τ h => ?_)
    obtain ⟨hb, hc⟩ := h
    have fb := hb.frs hω t69 hot
    have hτ := fb.sh hω rfl
    have e2 : hi τ 0 25 = nI m := (fb.i (by decide) rfl).trans w25
    rw [wp_gI, e2]
    refine ⟨so_0 hτ, ?_⟩
    rw [wp_pI]
    refine ⟨so_0 hτ, rfl, ?_⟩
    rw [wp_some, nI_1]
    have r4 : hr τ = hr ω := hb.2.2.2.1
    have slτ : ∀ i, slt τ i = slt ω i := fun i => by unfold slt; rw [r4]
    have sw : ∀ i, slt (wI τ 0 25 (nI (m + 1))) i = slt ω i := slτ
    have chw : ∀ {q : Nat} {b : HS}, CH τ q b → q ≠ 0 → q + 1 ≠ 0 → q + 2 ≠ 0 → CH (wI τ 0 25 (nI (m + 1))) q b := fun h z1 z2 z3 => h.ne (Ne.symm z1) (Ne.symm z2) (Ne.symm z3)
    refine ⟨?_, ⟨hi_eq, by show m + 1 ≤ 12; omega⟩, ⟨fun i hi' q hq => ?_, fun i j q hi' hj e1 e3 => ?_⟩, fun k hk' => ?_, fun i hi' => ?_⟩
    · have g1 : Fr [] [25] [] τ (wI τ 0 25 (nI (m + 1))) := Fr.refl.putI rfl
      exact (((f0.trans fb).mono rfl (Nat.le_refl _)).trans (g1.frs hτ rfl)).mono rfl (Nat.le_refl _)
    · rw [sw] at hq
      obtain ⟨a1, a2⟩ := sl1 i hi' q hq
      exact ⟨a1, hb.ho a2⟩
    · rw [sw] at e1 e3; exact sl2 i j q hi' hj e1 e3
    · have hk2 : k < m + 1 := hk'
      by_cases e : k = m
      · subst e
        refine ⟨t, by show hr τ 14 k = _; rw [r4]; exact r14, ?_⟩
        show CH _ t (up1 U.2 k a k)
        rw [up1_eq]
        exact chw hc (by omega) (by omega) (by omega)
      · obtain ⟨q, a1, a2⟩ := u2 k (by show k < m; omega) (by omega)
        have hq : slt ω k = some q := by unfold slt; rw [if_pos (by omega)]; exact a1
        have q69 := (sl1 k (by omega) q hq).1
        refine ⟨q, by show hr τ 14 k = _; rw [r4]; exact a1, ?_⟩
        show CH _ q (up1 U.2 m a k)
        rw [up1_ne e]
        refine chw (hb.ch a2 hot (fun z => ?_)) (by omega) (by omega) (by omega)
        subst z
        exact e (sl2 k m q (by omega) (by omega) hq slm)
    · have := u3 i hi'
      unfold KC at this ⊢
      cases hK : K i with
      | none => rw [hK] at this; dsimp only at this ⊢; show hr τ 34 i = _; rw [r4]; exact this
      | some b =>
        rw [hK] at this
        dsimp only at this ⊢
        obtain ⟨⟨q, a1, a2⟩, a3⟩ := this
        have hq : slt ω (i + 12) = some q := by unfold slt; rw [if_neg (by omega), Nat.add_sub_cancel]; exact a1
        have q69 := (sl1 (i + 12) (by omega) q hq).1
        refine ⟨⟨q, by show hr τ 34 i = _; rw [r4]; exact a1, chw (hb.ch a2 hot (fun z => ?_)) (by omega) (by omega) (by omega)⟩, ?_⟩
        · subst z
          have := sl2 (i + 12) m q (by omega) (by omega) hq slm
          omega
        · rw [hi_ne (by decide), fb.i (by decide) rfl]; exact a3
  have u0 := u
  obtain ⟨⟨sl1, sl2⟩, u2, u3⟩ := u
  rw [wp_gR, sp_0_23 hs]
  refine ⟨so_0 hs, ?_⟩
  rw [wp_gI, e25]
  refine ⟨so_0 hs, ?_⟩
  rw [wp_lR, ix_nI (by omega), sl_14 hs, inb_nI (by omega)]
  refine ⟨⟨so_14 hs, by omega⟩, ?_⟩
  rw [y_jn]
  cases h14 : hr σ 14 m with
  | some t =>
    unfold nul
    dsimp only
    have fr0 : FrS [] [] [] 3 σ σ := ((Fr.refl (D := []) (F := []) (G := [])).frs hs rfl).mono rfl (Nat.zero_le _)
    exact fin σ t hs fr0 e25 u0 h14 ha
  | none =>
    unfold nul nO
    dsimp only
    rw [wp_gR, sp_0_23 hs]
    refine ⟨so_0 hs, ?_⟩
    rw [wp_gI, e25]
    refine ⟨so_0 hs, ?_⟩
    rw [wp_nn, wp_bnd]
    refine wp_mono c_newHorse (fun _ τ hN => ?_)
    have fN := hN.frs hs
    have dN := hN.frd hs
    have hτ := fN.sh hs rfl
    rw [wp_sR (fun b hb => by cases hb; exact hN.2.2.1), ix_nI (by omega), sl_14 hτ, inb_nI (by omega)]
    refine ⟨⟨so_14 hτ, by omega⟩, ?_⟩
    have fR : FrS [] [] [] 0 τ (wR τ 14 m (some (hn σ))) := ⟨⟨Nat.le_refl _, Nat.le_refl _⟩, ⟨Nat.le_refl _, Nat.le_refl _⟩, ⟨Nat.le_refl _, fun b _ => ⟨rfl, fun k3 k6 => ⟨rfl, hr_ne (fun z => by subst z; rw [hτ.2.1 14 (by decide)] at k6; exact absurd k6 (by decide))⟩⟩⟩, fun a _ i => ⟨fun _ => ⟨rfl, rfl⟩, fun _ z _ => by rw [hr_ne z]⟩⟩
    have fNR := fN.trans fR
    have hω := fR.sh hτ rfl
    have e34 : hr (wR τ 14 m (some (hn σ))) 34 = hr σ 34 := (hr_ne (by decide)).trans dN.1.2
    have e14 : ∀ i, i ≠ m → hr (wR τ 14 m (some (hn σ))) 14 i = hr σ 14 i := fun i hi' => (hr_ni hi').trans (by rw [dN.1.1])
    have hoN : ∀ {q : Nat}, HO σ q → 69 ≤ q → HO (wR τ 14 m (some (hn σ))) q := fun h z => by
      have := h.frd dN fN.1.1 z
      obtain ⟨q1, q2, q3, q4⟩ := this
      exact ⟨q1, by rw [hr_ne (by omega)]; exact q2, by rw [hr_ne (by omega)]; exact q3, q4⟩
    have chN : ∀ {q : Nat} {b : HS}, CH σ q b → 69 ≤ q → CH (wR τ 14 m (some (hn σ))) q b := fun h z => ⟨hoN h.1 z, (h.frd dN fN.1.1 z).2⟩
    have hoNew : HO (wR τ 14 m (some (hn σ))) (hn σ) := by
      obtain ⟨q1, q2, q3, q4⟩ := hN.2.2
      exact ⟨q1, by rw [hr_ne (by omega)]; exact q2, by rw [hr_ne (by omega)]; exact q3, q4⟩
    have old : ∀ i, i < 14 → i ≠ m → slt (wR τ 14 m (some (hn σ))) i = slt σ i := fun i _ hne => by
      unfold slt
      by_cases c : i < 12
      · rw [if_pos c, if_pos c, e14 i hne]
      · rw [if_neg c, if_neg c, e34]
    have new : slt (wR τ 14 m (some (hn σ))) m = some (hn σ) := by unfold slt; rw [if_pos (by omega), hr_eq]
    refine fin _ (hn σ) hω (fNR.mono rfl (by decide)) ((fNR.i (by decide) rfl).trans e25) ⟨⟨fun i hi' q hq => ?_, fun i j q hi' hj e1 e3 => ?_⟩, fun k hk' hk2 => ?_, fun i hi' => ?_⟩ hr_eq ?_
    · by_cases c : i = m
      · rw [c, new] at hq; cases hq; exact ⟨h69, hoNew⟩
      · rw [old i hi' c] at hq
        obtain ⟨a1, a2⟩ := sl1 i hi' q hq
        exact ⟨a1, hoN a2 a1⟩
    · have lt : ∀ i, i < 14 → i ≠ m → slt (wR τ 14 m (some (hn σ))) i = some q → q < hn σ := fun i hi' c hq => by
        rw [old i hi' c] at hq
        exact (sl1 i hi' q hq).2.1.1
      by_cases c1 : i = m
      · by_cases c2 : j = m
        · omega
        · have := lt j hj c2 e3
          rw [c1, new] at e1; cases e1; omega
      · by_cases c2 : j = m
        · have := lt i hi' c1 e1
          rw [c2, new] at e3; cases e3; omega
        · rw [old i hi' c1] at e1
          rw [old j hj c2] at e3
          exact sl2 i j q hi' hj e1 e3
    · have hkm : k < m := hk'
      obtain ⟨q, a1, a2⟩ := u2 k hkm hk2
      have hq : slt σ k = some q := by unfold slt; rw [if_pos (by omega)]; exact a1
      exact ⟨q, by rw [e14 k (by omega)]; exact a1, chN a2 (sl1 k (by omega) q hq).1⟩
    · have := u3 i hi'
      unfold KC at this ⊢
      cases hK : K i with
      | none => rw [hK] at this; dsimp only at this ⊢; rw [e34]; exact this
      | some b =>
        rw [hK] at this
        dsimp only at this ⊢
        obtain ⟨⟨q, a1, a2⟩, a3⟩ := this
        have hq : slt σ (i + 12) = some q := by unfold slt; rw [if_neg (by omega), Nat.add_sub_cancel]; exact a1
        exact ⟨⟨q, by rw [e34]; exact a1, chN a2 (sl1 (i + 12) (by omega) q hq).1⟩, by show hi τ 35 i = _; rw [fN.i (by decide) rfl]; exact a3⟩
    · exact ha.frs hs (fNR.mono (D' := []) (F' := []) (G' := []) rfl (Nat.le_refl _)) (by omega) ⟨by omega, by omega⟩ rfl rfl rfl
theorem c_putsBy (hs : Sh σ) (u : UC σ U K) (ha : CH σ s a) (hs1 : s = 1 ∨ s = 15) : wp (f_X1_putsBy (some 0) (some s) σ) (fun _ τ => FrS [] [25] [] 3 σ τ ∧ UC τ (psh U a) K) := by
  obtain ⟨⟨e25, u12⟩, ⟨sl1, sl2⟩, u2, u3⟩ := u
  unfold f_X1_putsBy
  rw [wp_gI, e25]
  refine ⟨so_0 hs, ?_⟩
  rw [y_jn]
  by_cases c : U.1 = 12
  · rw [if_pos (by rw [c]; rfl)]
    unfold psh
    rw [if_pos c, wp_gR, sp_0_23 hs]
    refine ⟨so_0 hs, ?_⟩
    rw [wp_lR, show (0 : Int32) = nI 0 from rfl, ix_nI (by decide), sl_14 hs, inb_nI (by decide)]
    refine ⟨⟨so_14 hs, by decide⟩, ?_⟩
    have hsl : ∀ i, i < 12 → ∃ q, hr σ 14 i = some q ∧ HO σ q := fun i hi' => by
      obtain ⟨q, a1, a2⟩ := u2 i (by omega)
      exact ⟨q, a1, a2.1⟩
    refine wp_up 11 (fun i y τ => y = nI (1 + i) ∧ (hn τ = hn σ ∧ hu τ = hu σ ∧ hk τ = hk σ ∧ hi τ = hi σ ∧ hl τ = hl σ) ∧ (∀ b, b ≠ 14 → hr τ b = hr σ b) ∧ ∀ j, hr τ 14 j = if j < i then hr σ 14 (j + 1) else hr σ 14 j) (fun ag i y τ hi' hJ hag => ?_) (fun ag y τ hJ => ?_) (by decide) ⟨rfl, ⟨rfl, rfl, rfl, rfl, rfl⟩, fun _ _ => rfl, fun j => by rw [if_neg (Nat.not_lt_zero _)]⟩
    · obtain ⟨rfl, ⟨q1, q2, q3, q4, q5⟩, h1, h2⟩ := hJ
      have hτ : Sh τ := ⟨by rw [q1]; exact hs.1, fun a ha => by rw [q3]; exact hs.2.1 a ha, fun q hq => by
        have hsp : ∀ q ∈ sp0, q.1 ≠ 14 := by decide
        rw [h1 q.1 (hsp q hq)]; exact hs.2.2 q hq⟩
      unfold f_X1_putsBy_b18
      rw [n_12, if_neg (nI_ge (by omega) (by decide)), wp_gR, sp_0_23 hτ]
      refine ⟨so_0 hτ, ?_⟩
      rw [wp_gR, sp_0_23 hτ]
      refine ⟨so_0 hτ, ?_⟩
      rw [wp_lR, ix_nI (by omega), sl_14 hτ, inb_nI (by omega), h2, if_neg (by omega), l_sub1 (by omega), show 1 + i - 1 = i by omega]
      refine ⟨⟨so_14 hτ, by omega⟩, ?_⟩
      obtain ⟨q, g1, g2⟩ := hsl (1 + i) (by omega)
      rw [g1, wp_sR (fun b hb => by cases hb; exact ⟨by rw [q1]; exact g2.1.1, by rw [q3]; exact g2.1.2⟩), ix_nI (by omega), sl_14 hτ, inb_nI (by omega)]
      refine ⟨⟨so_14 hτ, by omega⟩, ?_⟩
      rw [nI_1]
      refine hag _ _ ⟨by rw [Nat.add_assoc], ⟨q1, q2, q3, q4, q5⟩, fun b hb => by rw [hr_ne hb]; exact h1 b hb, fun j => ?_⟩
      by_cases e : j = i
      · rw [e, hr_eq, if_pos (Nat.lt_succ_self i), ← g1, Nat.add_comm]
      · rw [hr_ni e, h2]
        by_cases e2 : j < i
        · rw [if_pos e2, if_pos (by omega)]
        · rw [if_neg e2, if_neg (by omega)]
    · obtain ⟨rfl, ⟨q1, q2, q3, q4, q5⟩, h1, h2⟩ := hJ
      have hτ : Sh τ := ⟨by rw [q1]; exact hs.1, fun a ha => by rw [q3]; exact hs.2.1 a ha, fun q hq => by
        have hsp : ∀ q ∈ sp0, q.1 ≠ 14 := by decide
        rw [h1 q.1 (hsp q hq)]; exact hs.2.2 q hq⟩
      obtain ⟨s0, g1, g2⟩ := hsl 0 (by decide)
      unfold f_X1_putsBy_b18
      rw [if_pos (by decide), wp_gR, sp_0_23 hτ]
      refine ⟨so_0 hτ, ?_⟩
      rw [g1, wp_sR (fun b hb => by cases hb; exact ⟨by rw [q1]; exact g2.1.1, by rw [q3]; exact g2.1.2⟩), show (11 : Int32) = nI 11 from rfl, ix_nI (by decide), sl_14 hτ, inb_nI (by decide)]
      refine ⟨⟨so_14 hτ, by decide⟩, ?_⟩
      generalize hω : wR τ 14 11 (some s0) = ω
      have w1 : hn ω = hn σ := by rw [← hω]; exact q1
      have w2 : hu ω = hu σ := by rw [← hω]; exact q2
      have w3 : hk ω = hk σ := by rw [← hω]; exact q3
      have w4 : hi ω = hi σ := by rw [← hω]; exact q4
      have w5 : hl ω = hl σ := by rw [← hω]; exact q5
      have w6 : ∀ b, b ≠ 14 → hr ω b = hr σ b := fun b hb => by rw [← hω, hr_ne hb]; exact h1 b hb
      have w7 : ∀ j, j < 12 → hr ω 14 j = hr σ 14 (if j = 11 then 0 else j + 1) := fun j hj => by
        rw [← hω]
        by_cases e : j = 11
        · rw [e, hr_eq, if_pos rfl, g1]
        · rw [hr_ni e, h2, if_pos (by omega), if_neg e]
      have hsω : Sh ω := ⟨by rw [w1]; exact hs.1, fun a ha => by rw [w3]; exact hs.2.1 a ha, fun q hq => by
        have hsp : ∀ q ∈ sp0, q.1 ≠ 14 := by decide
        rw [w6 q.1 (hsp q hq)]; exact hs.2.2 q hq⟩
      rw [wp_gI, w4, e25, c, nI_sub (b := 1) (by decide : 1 ≤ 12) |> fun h => show nI 12 - 1 = nI 11 from h]
      refine ⟨so_0 hsω, ?_⟩
      rw [wp_pI]
      refine ⟨so_0 hsω, rfl, ?_⟩
      generalize hψ : wI ω 0 25 (nI 11) = ψ
      have v1 : hn ψ = hn σ := by rw [← hψ]; exact w1
      have v3 : hk ψ = hk σ := by rw [← hψ]; exact w3
      have v4 : ∀ b, b ≠ 0 → hi ψ b = hi σ b := fun b hb => by rw [← hψ, hi_ne hb, w4]
      have v6 : ∀ b, b ≠ 14 → hr ψ b = hr σ b := fun b hb => by rw [← hψ]; exact w6 b hb
      have v7 : ∀ j, j < 12 → hr ψ 14 j = hr σ 14 (if j = 11 then 0 else j + 1) := fun j hj => by rw [← hψ]; exact w7 j hj
      have hsψ : Sh ψ := by rw [← hψ]; exact sw_I hsω
      have fψ : FrS [] [25] [] 0 σ ψ := by
        refine ⟨⟨by rw [v1]; exact Nat.le_refl _, by rw [v1]; exact Nat.le_refl _⟩, ⟨by rw [← hψ]; exact Nat.le_of_eq w2.symm, by rw [← hψ]; exact Nat.le_of_eq w2⟩, ⟨by rw [v1]; exact Nat.le_refl _, fun b hb => ⟨by rw [v3], fun k3 k6 => ?_⟩⟩, fun b hb i => ⟨fun q => ⟨?_, by rw [← hψ]; show hl ω b i = _; rw [w5]⟩, fun _ z _ => by rw [v6 b z]⟩⟩
        · have n0 : b ≠ 0 := by rintro rfl; rw [hs.2.1 0 (by decide)] at k3; exact absurd k3 (by decide)
          have n14 : b ≠ 14 := by rintro rfl; rw [hs.2.1 14 (by decide)] at k6; exact absurd k6 (by decide)
          exact ⟨v4 b n0, v6 b n14⟩
        · by_cases e : b = 0
          · subst e
            rw [← hψ, hi_ni (fun z => by subst z; cases (show false = true from q)), w4]
          · rw [v4 b e]
      have hoψ : ∀ {q : Nat}, HO σ q → 69 ≤ q → HO ψ q := fun h z => by
        obtain ⟨p1, p2, p3, p4, p5, p6, p7⟩ := h
        exact ⟨⟨by rw [v1]; exact p1.1, by rw [v3]; exact p1.2⟩, by rw [v6 _ (by omega)]; exact p2, by rw [v6 _ (by omega)]; exact p3, ⟨by rw [v1]; exact p4.1, by rw [v3]; exact p4.2⟩, by rw [v3]; exact p5, ⟨by rw [v1]; exact p6.1, by rw [v3]; exact p6.2⟩, by rw [v3]; exact p7⟩
      have chψ : ∀ {q : Nat} {b : HS}, CH σ q b → 69 ≤ q → CH ψ q b := fun h z => by
        obtain ⟨p1, p8, p9, p10, p11, p12, p13⟩ := h
        exact ⟨hoψ p1 z, fun j hj => by rw [v4 _ (by omega)]; exact p8 j hj, fun j hj => by rw [v4 _ (by omega)]; exact p9 j hj, by rw [v4 _ (by omega)]; exact p10, by rw [v4 _ (by omega)]; exact p11, by rw [v4 _ (by omega)]; exact p12, by rw [v4 _ (by omega)]; exact p13⟩
      have rot : ∀ i, i < 14 → ∃ i', i' < 14 ∧ slt ψ i = slt σ i' ∧ ∀ j, j < 14 → ∀ j', j' = (if j = 11 then 0 else if j < 11 then j + 1 else j) → (i' = j' → i = j) ∧ (i = j → i' = j') := fun i hi' => by
        refine ⟨if i = 11 then 0 else if i < 11 then i + 1 else i, by split; omega; split <;> omega, ?_, fun j hj j' hj' => ?_⟩
        · unfold slt
          by_cases e1 : i < 12
          · rw [if_pos e1, v7 i e1]
            by_cases e2 : i = 11
            · rw [if_pos e2, if_pos e2, if_pos (by decide)]
            · rw [if_neg e2, if_neg e2, if_pos (show i < 11 by omega), if_pos (by omega)]
          · rw [if_neg e1, v6 34 (by decide), if_neg (show ¬ i = 11 by omega), if_neg (show ¬ i < 11 by omega), if_neg e1]
        · subst hj'
          constructor
          · intro h; split at h <;> split at h <;> (try split at h) <;> (try split at h) <;> omega
          · intro h; rw [h]
      have aψ : CH ψ s a := ha.frs hs fψ (by omega) ⟨by omega, by omega⟩ rfl rfl rfl
      refine wp_mono (c_putsAt hsψ (m := 11) (U := (0, fun k => U.2 (k + 1))) (K := K) (a := a) (by decide) (by rw [← hψ, hi_eq]) ⟨⟨fun i hi' q hq => ?_, fun i j q hi' hj e1 e3 => ?_⟩, fun k hk' _ => ?_, fun i hi' => ?_⟩ aψ hs1) (fun _ τ' h => ⟨(fψ.trans h.1).mono rfl (by decide), h.2⟩)
      · obtain ⟨i', b1, b2', -⟩ := rot i hi'
        rw [b2'] at hq
        obtain ⟨a1, a2⟩ := sl1 i' b1 q hq
        exact ⟨a1, hoψ a2 a1⟩
      · obtain ⟨i', b1, b2', b3⟩ := rot i hi'
        obtain ⟨j', d1, d2, d3⟩ := rot j hj
        rw [b2'] at e1
        rw [d2] at e3
        have hij := sl2 i' j' q b1 d1 e1 e3
        have := (d3 j hj _ rfl).2 rfl
        exact (b3 j hj _ rfl).1 (by rw [hij]; exact this)
      · have hk2 : k < 11 := hk'
        obtain ⟨q, a1, a2⟩ := u2 (k + 1) (by omega)
        have hq : slt σ (k + 1) = some q := by unfold slt; rw [if_pos (by omega)]; exact a1
        exact ⟨q, by rw [v7 k (by omega), if_neg (by omega)]; exact a1, chψ a2 (sl1 (k + 1) (by omega) q hq).1⟩
      · have := u3 i hi'
        unfold KC at this ⊢
        cases hK : K i with
        | none => rw [hK] at this; dsimp only at this ⊢; rw [v6 34 (by decide)]; exact this
        | some b =>
          rw [hK] at this
          dsimp only at this ⊢
          obtain ⟨⟨q, a1, a2⟩, a3⟩ := this
          have hq : slt σ (i + 12) = some q := by unfold slt; rw [if_neg (by omega), Nat.add_sub_cancel]; exact a1
          exact ⟨⟨q, by rw [v6 34 (by decide)]; exact a1, chψ a2 (sl1 (i + 12) (by omega) q hq).1⟩, by rw [v4 35 (by decide)]; exact a3⟩
  · rw [if_neg (by rw [n_12, nI_eq_l (by omega) (by decide)]; exact c)]
    unfold psh
    rw [if_neg c]
    exact c_putsAt hs (m := U.1) (U := U) (by omega) e25 ⟨⟨sl1, sl2⟩, fun k hk' _ => u2 k hk', u3⟩ ha hs1
end puts
