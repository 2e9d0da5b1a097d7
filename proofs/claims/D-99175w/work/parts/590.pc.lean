/-! PURE 117: a call made of both sides -/
def PC (V : VS) (c m : Hp → Option (Int32 × Hp)) : Prop := ∃ (r : Int32) (V' : VS), VOK V' ∧ (∀ σ, CV σ V → wp (c σ) (fun x τ => x = r ∧ CV τ V' ∧ (MW σ V → MW τ V) ∧ hn τ ≤ hn σ + 40 ∧ hu τ ≤ hu σ + 400)) ∧ (∀ σ, MW σ V → wp (m σ) (fun x τ => x = r ∧ MW τ V' ∧ (CV σ V' → CV τ V') ∧ hn τ = hn σ ∧ hu τ = hu σ))
def JV (σ : Hp) (V : VS) : Prop := CV σ V ∧ MW σ V ∧ VOK V
section pc
variable {V : VS} {σ : Hp} {c m : Hp → Option (Int32 × Hp)}
theorem QP.pc (h : QP V c m) (hk : VOK V) : PC V c m := by
  obtain ⟨r, w, hc, hm⟩ := h
  refine ⟨r, setw V w, hk, fun σ h => wp_mono (hc σ h) (fun x τ q => ?_), fun σ h => wp_mono (hm σ h) (fun x τ q => ?_)⟩
  · obtain ⟨e, cv, fs⟩ := h.qu q
    have h1 := fs.1.2
    have h2 := fs.2.1.2
    exact ⟨e, cv, fun hm => hm.frs fs rfl, by omega, by omega⟩
  · obtain ⟨e, mv, fs, fd⟩ := h.qu q
    exact ⟨e, mv, fun hc => hc.frs fs fd rfl, q.2.1.1, q.2.1.2.1⟩
theorem go_pc {r : Int32} {V' : VS} {g : Nat} (hc : ∀ σ, CV σ V → wp (c σ) (GoC σ g r V')) (hm : ∀ σ, MW σ V → wp (m σ) (GoM σ r V')) (hk : VOK V') (hg : g ≤ 40) : PC V c m := by
  refine ⟨r, V', hk, fun σ h => wp_mono (hc σ h) (fun x τ q => ?_), fun σ h => wp_mono (hm σ h) (fun x τ q => ?_)⟩
  · obtain ⟨e, cv, D, F, fs, -⟩ := id q
    have h1 := fs.1.2
    have h2 := fs.2.1.2
    exact ⟨e, cv, fun hm => GoC.mv hm q, by omega, by omega⟩
  · obtain ⟨e, mv, D, G, f, -⟩ := id q
    exact ⟨e, mv, fun hc => GoM.cv hc q, f.1, f.2.1⟩
theorem pc_call (hJ : JV σ V) (p : PC V c m) {K : Int32 → Int32 → Hp → Option (Int32 × Hp)} {Q : Int32 → Hp → Prop} (hK : ∀ r V' τ, JV τ V' → hn τ ≤ hn σ + 40 → hu τ ≤ hu σ + 400 → wp (K r r τ) Q) : wp (ob 0 σ (some 0) fun _ => bnd (c σ) fun x σ => ob 2 σ (some 37) fun _ => bnd (m σ) fun y σ => K x y σ) Q := by
  obtain ⟨hc, hm, hv⟩ := hJ
  obtain ⟨r, V', v', pc, pm⟩ := p
  rw [wp_ob]
  refine ⟨so_0 hc.1.s, ?_⟩
  rw [wp_bnd]
  refine wp_mono (pc σ hc) (fun x τ h => ?_)
  obtain ⟨e1, c1, m1, n1, u1⟩ := h
  have m1 := m1 hm
  rw [wp_ob]
  refine ⟨so_37 m1.1.s, ?_⟩
  rw [wp_bnd]
  refine wp_mono (pm τ m1) (fun y ω h => ?_)
  obtain ⟨e2, m2, c2, n2, u2⟩ := h
  rw [e1, e2]
  exact hK _ V' ω ⟨c2 c1, m2, v'⟩ (by omega) (by omega)
theorem wp_if {c : Prop} [Decidable c] {A B : Option (Int32 × Hp)} {Q : Int32 → Hp → Prop} (h1 : c → wp A Q) (h2 : ¬ c → wp B Q) : wp (if c then A else B) Q := by
  by_cases h : c
  · rw [if_pos h]; exact h1 h
  · rw [if_neg h]; exact h2 h
/-- a rider asked, the row asked: the class's answer lies in the law's own cell -/
theorem lL_68 {τ : Hp} (hs : Sh τ) {K : Int64 → Option (Int32 × Hp)} {Q : Int32 → Hp → Prop} (h : wp (K (hl τ 68 0)) Q) : wp (lL τ (some 68) 0 K) Q := by
  rw [wp_lL]
  exact ⟨⟨⟨hs.1, by rw [hs.2.1 68 (by decide)]; rfl⟩, by rw [hs.2.1 68 (by decide)]; unfold inb; decide⟩, h⟩
theorem m_thrwn {τ : Hp} (hs : Sh τ) : f_X3_thrown (some 37) τ = some (hi τ 37 11, τ) := by
  unfold f_X3_thrown
  rw [e_gI (so_37 hs)]
theorem cmp_self (v : Int64) : lg_cmp v v = 0 := by
  unfold lg_cmp
  simp
theorem x_call {β : Type} (hJ : JV σ V) {o : Option β} {f : β → Int64} {cc : Option (Int32 × Hp)} {mm : Hp → Option (β × Hp)} (hc : wp cc (QCx σ V (o.map f))) (hm : ∀ τ, MW τ V → wp (mm τ) (QMx τ V o)) {R L : Hp → Option (Int32 × Hp)} {Q : Int32 → Hp → Prop} (hK : ∀ τ, JV τ V → hn τ ≤ hn σ + 40 → hu τ ≤ hu σ + 400 → wp (R τ) Q) : wp (bnd cc fun k σ => ob 2 σ (some 37) fun _ => bnd (mm σ) fun b σ => ob 2 σ (some 37) fun _ => bnd (f_X3_thrown (some 37) σ) fun t σ => if t = k then (if k = 0 then lL σ (some 68) 0 fun x => if (lg_cmp x (f b)) = 0 then R σ else L σ else R σ) else L σ) Q := by
  obtain ⟨cv, mv, hv⟩ := hJ
  rw [wp_bnd]
  refine wp_mono hc (fun k τ h => ?_)
  obtain ⟨cv1, fs, hk⟩ := h
  have mv1 : MW τ V := mv.frs fs rfl
  have h1 := fs.1.2
  have h2 := fs.2.1.2
  rw [wp_ob]
  refine ⟨so_37 mv1.1.s, ?_⟩
  rw [wp_bnd]
  refine wp_mono (hm τ mv1) (fun b ω h => ?_)
  obtain ⟨mv2, f2, hb⟩ := h
  have cv2 : CV ω V := cv1.frs (f2.frs mv1.1.s rfl) (f2.frd rfl) rfl
  have e1 := f2.1
  have e2 := f2.2.1
  have go := hK ω ⟨cv2, mv2, hv⟩ (by omega) (by omega)
  rw [wp_ob]
  refine ⟨so_37 mv2.1.s, ?_⟩
  rw [m_thrwn mv2.1.s, e_bnd]
  cases o with
  | none =>
    have hk' : k = 1 := hk
    have hb' : hi ω 37 11 = 1 := hb
    rw [hk', hb', if_pos rfl, if_neg (by decide)]
    exact go
  | some v =>
    obtain ⟨hk', hl'⟩ : k = 0 ∧ hl τ 68 0 = f v := hk
    obtain ⟨hb1, hb2⟩ : b = v ∧ hi ω 37 11 = 0 := hb
    rw [hk', hb2, if_pos rfl, if_pos rfl]
    refine lL_68 mv2.1.s ?_
    rw [f2.l rfl, hl', hb1, cmp_self, if_pos rfl]
    exact go
end pc
