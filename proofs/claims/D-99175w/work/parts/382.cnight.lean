/-! PURE 14: the class lets a night go -/
section cnight
variable {σ τ : Hp} {P : Pk} {a : HS} {s r h : Nat}
theorem c_nightGoes (hs : Sh σ) (hp : CP σ P) (pk : POK P) (ha : CH σ s a) (hok : HOK P.n a) (hs1 : s = 1 ∨ s = 4) : wp (f_X1_nightGoes (some 0) (some s) σ) (fun _ τ => Fr [18, 19, s, s + 2] [18, 19, 20, 28, 29] [] σ τ ∧ CH τ s (goN P a) ∧ hi τ 0 28 = nI (gapN P a)) := by
  have n8 := pk.1
  have hg8 := gapN_lt pk hok
  have hr8 := ridN_lt pk hok
  unfold f_X1_nightGoes
  rw [wp_ob]
  refine ⟨so_0 hs, ?_⟩
  rw [wp_bnd]
  refine wp_mono (c_rides hs hp pk ha hok hs1) (fun _ τ hτ => ?_)
  obtain ⟨f, j1, j2, j3⟩ := hτ
  have hsτ : Sh τ := f.sh hs rfl
  have hpτ : CP τ P := hp.fr hs f rfl rfl
  have haτ : CH τ s a := by
    rcases hs1 with rfl | rfl
    · exact ha.fr f (by decide) (by decide) rfl rfl rfl
    · exact ha.fr f (by decide) (by decide) rfl rfl rfl
  obtain ⟨⟨q1, q2, q3, q4, q5, q6, q7⟩, q8, q9, q10, q11, q12, q13⟩ := haτ
  have hs0 : s ≠ 0 := by omega
  simp (disch := omega) only [wp_gI, wp_bnd, wp_pI, okv0, e_bc, wp_some, q1, q12, q13, so_0 hsτ, Ok_wI, true_and, hi_ne, hi_ni, j1, j2, bc_nI]
  generalize hυ : wI (wI τ s 4 (a.gaps + nI (pop (gapN P a)))) s 5 (a.rid + nI (pop (ridN P a))) = υ
  have fυ : Fr [18, 19, s, s + 2] [18, 19, 20, 28, 29] [] τ υ := by
    rw [← hυ]
    rcases hs1 with rfl | rfl
    · exact (Fr.refl.putI rfl).putI rfl
    · exact (Fr.refl.putI rfl).putI rfl
  have ff : Fr [18, 19, s, s + 2] [18, 19, 20, 28, 29] [] σ υ := (f.mono (by rcases hs1 with rfl | rfl <;> rfl)).trans fυ
  have u1 : hi υ s 4 = (goN P a).gaps := by rw [← hυ, hi_ni (by decide), hi_eq]; rfl
  have u2 : hi υ s 5 = (goN P a).rid := by rw [← hυ, hi_eq]; rfl
  have u3 : hi υ s 3 = a.night := by rw [← hυ, hi_ni (by decide), hi_ni (by decide)]; exact q11
  have u4 : hi υ s 2 = nI a.ill := by rw [← hυ, hi_ni (by decide), hi_ni (by decide)]; exact q10
  have u5 : ∀ c, c ≠ s → hi υ c = hi τ c := fun c hc => by rw [← hυ, hi_ne hc, hi_ne hc]
  refine wp_up P.n (fun i x ω => x = nI i ∧ Fr [18, 19, s, s + 2] [18, 19, 20, 28, 29] [] υ ω ∧ (∀ c, c ≠ s + 2 → hi ω c = hi υ c) ∧ (∀ r, r < i → hi ω (s + 2) r = (goN P a).tired r) ∧ (∀ r, i ≤ r → hi ω (s + 2) r = hi υ (s + 2) r)) (fun ag i x ω hi' hJ hag => ?_) (fun ag x ω hJ => ?_) (by omega) ⟨rfl, Fr.refl, fun _ _ => rfl, fun r hr' => by omega, fun _ _ => rfl⟩
  · obtain ⟨rfl, g, k1, k2, k3⟩ := hJ
    have gs : Fr [18, 19, s, s + 2] [18, 19, 20, 28, 29] [] σ ω := ff.trans g
    have hsω : Sh ω := by rcases hs1 with rfl | rfl <;> exact gs.sh hs rfl
    have hpω : CP ω P := by rcases hs1 with rfl | rfl <;> exact hp.fr hs gs rfl rfl
    obtain ⟨l1, l2⟩ := j3 i hi'
    have v1 : hi ω 18 i = nI ((rdS P a P.hrs).2.2.2.1 i) := by rw [k1 18 (by omega), u5 18 (by omega)]; exact l1
    have v2 : hi ω 19 i = (rdS P a P.hrs).2.2.2.2 i := by rw [k1 19 (by omega), u5 19 (by omega)]; exact l2
    have v3 : hi ω (s + 2) i = a.tired i := by rw [k3 i (Nat.le_refl _), u5 (s + 2) (by omega)]; exact q9 i (by omega)
    have o1 : Ok ω s 1 := g.ok (fυ.ok q1)
    have o2 : Ok ω (s + 2) 100 := g.ok (fυ.ok q6)
    have o3 : (hk ω (s + 2)).2 = 8 := by rw [g.k, fυ.k]; exact q7
    have o4 : hr ω s 1 = some (s + 2) := by rcases hs1 with rfl | rfl; exact sp_1_1 hsω; exact sp_4_1 hsω
    have hrode := (rdS_ok hok P.hrs pk.2.1.2).2.2.2 i
    have h8 := pk.2.1.2
    unfold f_X1_nightGoes_b39 jn
    rw [wp_gI, hpω.1, if_neg (nI_ge hi' (by omega))]
    simp (disch := omega) only [wp_gR, wp_lI, o1, o4, sp_0_26 hsω, so_0 hsω, so_18 hsω, sl_18 hsω, inb_nI, ix_nI, true_and, v1]
    have fin : ∀ w, w = (goN P a).tired i → i < 8 ∧ wp (ag (nI i + 1) (wI ω (s + 2) i w)) (fun _ τ => Fr [18, 19, s, s + 2] [18, 19, 20, 28, 29] [] σ τ ∧ CH τ s (goN P a) ∧ hi τ 0 28 = nI (gapN P a)) := by
      intro w hw
      refine ⟨by omega, ?_⟩
      rw [nI_1]
      refine hag _ _ ⟨rfl, by rcases hs1 with rfl | rfl <;> exact g.putI rfl, fun c hc => by rw [hi_ne hc]; exact k1 c hc, fun r hr' => ?_, fun r hr' => ?_⟩
      · by_cases e : r = i
        · rw [e, hi_eq, hw]
        · rw [hi_ni e]; exact k2 r (by omega)
      · rw [hi_ni (by omega)]; exact k3 r (by omega)
    refine ⟨by omega, ?_⟩
    by_cases hz : (rdS P a P.hrs).2.2.2.1 i = 0
    · rw [if_pos (by rw [hz]; decide)]
      simp (disch := omega) only [wp_gR, wp_lI, wp_sI, o1, o4, o2, o3, inb_nI, ix_nI, true_and, v3]
      refine ⟨by omega, fin _ ?_⟩
      show _ = if i < P.n then (if (rdS P a P.hrs).2.2.2.1 i = 0 then _ else _) else _
      rw [if_pos hi', if_pos hz]
    · rw [if_neg (nI_nle (by omega) (by omega))]
      simp (disch := omega) only [wp_gR, wp_lI, wp_sI, o1, o4, o2, o3, sp_0_27 hsω, so_0 hsω, so_19 hsω, sl_19 hsω, inb_nI, ix_nI, true_and, v3, v2]
      refine ⟨by omega, by omega, fin _ ?_⟩
      show _ = if i < P.n then (if (rdS P a P.hrs).2.2.2.1 i = 0 then _ else _) else _
      rw [if_pos hi', if_neg hz]
  · obtain ⟨rfl, g, k1, k2, k3⟩ := hJ
    have gs : Fr [18, 19, s, s + 2] [18, 19, 20, 28, 29] [] σ ω := ff.trans g
    have hsω : Sh ω := by rcases hs1 with rfl | rfl <;> exact gs.sh hs rfl
    have hpω : CP ω P := by rcases hs1 with rfl | rfl <;> exact hp.fr hs gs rfl rfl
    have o1 : Ok ω s 1 := g.ok (fυ.ok q1)
    unfold f_X1_nightGoes_b39
    rw [wp_gI, hpω.1, if_pos (nI_le (Nat.le_refl _) (by omega))]
    refine ⟨so_0 hsω, ?_⟩
    simp (disch := omega) only [wp_gI, wp_pI, okv0, wp_some, o1, true_and, k1 s (by omega), u3]
    refine ⟨by rcases hs1 with rfl | rfl <;> exact gs.putI rfl, ⟨⟨o1, ?_, ?_, g.ok (fυ.ok q4), ?_, g.ok (fυ.ok q6), ?_⟩, fun h hh => ?_, fun r hr' => ?_, ?_, ?_, ?_, ?_⟩, ?_⟩
    · rcases hs1 with rfl | rfl
      · exact sp_1_0 hsω
      · exact sp_4_0 hsω
    · rcases hs1 with rfl | rfl
      · exact sp_1_1 hsω
      · exact sp_4_1 hsω
    · show (hk ω (s + 1)).2 = 8
      rw [g.k, fυ.k]; exact q5
    · show (hk ω (s + 2)).2 = 8
      rw [g.k, fυ.k]; exact q7
    · rw [hi_ne (by omega), k1 _ (by omega), u5 _ (by omega)]; exact q8 h hh
    · rw [hi_ne (by omega)]
      by_cases hx : r < P.n
      · exact k2 r hx
      · rw [k3 r (by omega), u5 _ (by omega), q9 r hr']
        exact (if_neg hx).symm
    · rw [hi_ni (by decide), k1 s (by omega)]; exact u4
    · rw [hi_eq]; rfl
    · rw [hi_ni (by decide), k1 s (by omega)]; exact u1
    · rw [hi_ni (by decide), k1 s (by omega)]; exact u2
    · rw [hi_ne (by omega), k1 0 (by omega), u5 0 (by omega)]; exact j1
end cnight
