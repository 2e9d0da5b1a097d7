/-! PURE 77: small changes of a horse; sums; numbers drawn -/
/-- ill or well again; one hour another's; hours exchanged -/
def flp (a : HS) (q : Nat) : HS := (a.1, a.2.1, a.ill ^^^ 2 ^ q, a.2.2.2)
def stR (a : HS) (h : Nat) (v : Int32) : HS := (up1 a.rota h v, a.2)
theorem xor_lt2 {n x q : Nat} (hx : x < 2 ^ n) (hq : q < n) : x ^^^ 2 ^ q < 2 ^ n := Nat.xor_lt_two_pow hx (Nat.pow_lt_pow_right (by decide) hq)
theorem flp_ok {n : Nat} {a : HS} (h : HOK n a) {q : Nat} (hq : q < n) : HOK n (flp a q) := ⟨xor_lt2 h.1 hq, h.2⟩
theorem stR_ok {n : Nat} {a : HS} (h : HOK n a) {k : Nat} {v : Int32} (hv : okR n v) : HOK n (stR a k v) := ⟨h.1, fun j hj => by
  show okR n (up1 a.rota k v j)
  unfold up1
  split
  · exact hv
  · exact h.2 j hj⟩
theorem sumI_congr {f g : Nat → Int32} : ∀ n, (∀ i, i < n → f i = g i) → sumI f n = sumI g n := by
  intro n
  induction n with
  | zero => intro _; rfl
  | succ n ih =>
    intro h
    show sumI f n + f n = sumI g n + g n
    rw [ih (fun i hi' => h i (by omega)), h n (by omega)]
section hs
variable {σ τ : Hp} {P : Pk} {a b : HS} {s t : Nat}
theorem CH.flp (h : CH σ s a) (q : Nat) : CH (wI σ s 2 (nI (a.ill ^^^ 2 ^ q))) s (flp a q) := by
  obtain ⟨q1, q8, q9, q10, q11, q12, q13⟩ := h
  refine ⟨q1, fun h hh => ?_, fun r hr' => ?_, hi_eq, ?_, ?_, ?_⟩
  · rw [hi_ne (by omega)]; exact q8 h hh
  · rw [hi_ne (by omega)]; exact q9 r hr'
  · rw [hi_ni (by decide)]; exact q11
  · rw [hi_ni (by decide)]; exact q12
  · rw [hi_ni (by decide)]; exact q13
theorem CH.stR (h : CH σ s a) (k : Nat) (v : Int32) : CH (wI σ (s + 1) k v) s (stR a k v) := by
  obtain ⟨q1, q8, q9, q10, q11, q12, q13⟩ := h
  refine ⟨q1, fun j hj => ?_, fun r hr' => ?_, ?_, ?_, ?_, ?_⟩
  · show _ = up1 a.rota k v j
    by_cases e : j = k
    · rw [e, hi_eq, up1_eq]
    · rw [hi_ni e, up1_ne e]; exact q8 j hj
  · rw [hi_ne (by omega)]; exact q9 r hr'
  · rw [hi_ne (by omega)]; exact q10
  · rw [hi_ne (by omega)]; exact q11
  · rw [hi_ne (by omega)]; exact q12
  · rw [hi_ne (by omega)]; exact q13
theorem MH.flp (h : MH σ t 0 a) {q : Nat} (hq : q < 8) : MH (wI σ t (16 + q) (1 - hi σ t (16 + q))) t 0 (flp a q) := by
  obtain ⟨q1, q2, q3, q4, q5, q6⟩ := h
  have e := q3 q hq
  refine ⟨fun h hh => ?_, fun r hr' => ?_, fun r hr' => ?_, ?_, ?_, ?_⟩
  · rw [hi_ni (by omega)]; exact q1 h hh
  · rw [hi_ni (by omega)]; exact q2 r hr'
  · rw [Nat.zero_add] at e ⊢
    show _ = if (a.ill ^^^ 2 ^ q).testBit r = true then 1 else 0
    rw [Nat.testBit_xor, bit_pow]
    by_cases er : r = q
    · rw [er, hi_eq, e, decide_eq_true rfl]
      cases a.ill.testBit q <;> rfl
    · have := q3 r hr'
      rw [Nat.zero_add] at this
      rw [hi_ni (by omega), this, decide_eq_false (fun z => er z.symm), Bool.xor_false]
  · rw [hi_ni (by omega)]; exact q4
  · rw [hi_ni (by omega)]; exact q5
  · rw [hi_ni (by omega)]; exact q6
theorem MH.stR (h : MH σ t 0 a) {k : Nat} (hk' : k < 8) (v : Int32) : MH (wI σ t k v) t 0 (stR a k v) := by
  obtain ⟨q1, q2, q3, q4, q5, q6⟩ := h
  refine ⟨fun j hj => ?_, fun r hr' => ?_, fun r hr' => ?_, ?_, ?_, ?_⟩
  · show _ = up1 a.rota k v j
    have := q1 j hj
    rw [Nat.zero_add] at this ⊢
    by_cases e : j = k
    · rw [e, hi_eq, up1_eq]
    · rw [hi_ni e, up1_ne e]; exact this
  · rw [hi_ni (by omega)]; exact q2 r hr'
  · rw [hi_ni (by omega)]; exact q3 r hr'
  · rw [hi_ni (by omega)]; exact q4
  · rw [hi_ni (by omega)]; exact q5
  · rw [hi_ni (by omega)]; exact q6
theorem CH.ne (h : CH σ s a) {c i : Nat} {v : Int32} (h0 : c ≠ s) (h1 : c ≠ s + 1) (h2 : c ≠ s + 2) : CH (wI σ c i v) s a := by
  obtain ⟨q1, q8, q9, q10, q11, q12, q13⟩ := h
  exact ⟨q1, fun h hh => by rw [hi_ne (Ne.symm h1)]; exact q8 h hh, fun h hh => by rw [hi_ne (Ne.symm h2)]; exact q9 h hh, by rw [hi_ne (Ne.symm h0)]; exact q10, by rw [hi_ne (Ne.symm h0)]; exact q11, by rw [hi_ne (Ne.symm h0)]; exact q12, by rw [hi_ne (Ne.symm h0)]; exact q13⟩
theorem MH.ne (h : MH σ t 0 a) {c i : Nat} {v : Int32} (h0 : c ≠ t) : MH (wI σ c i v) t 0 a := by
  obtain ⟨q1, q2, q3, q4, q5, q6⟩ := h
  exact ⟨fun j hj => by rw [hi_ne (Ne.symm h0)]; exact q1 j hj, fun j hj => by rw [hi_ne (Ne.symm h0)]; exact q2 j hj, fun j hj => by rw [hi_ne (Ne.symm h0)]; exact q3 j hj, by rw [hi_ne (Ne.symm h0)]; exact q4, by rw [hi_ne (Ne.symm h0)]; exact q5, by rw [hi_ne (Ne.symm h0)]; exact q6⟩
theorem c_tsum (h : Sh σ) {n : Nat} (h5 : hi σ 0 5 = nI n) (n8 : n ≤ 8) (hc : CH σ s a) : f_X1_sumOf (some 0) (some (s + 2)) σ = some (sumI a.tired n, σ) := by
  obtain ⟨⟨p1, p2, p3, p4, p5, p6, p7⟩, q8, q9, q10, q11, q12, q13⟩ := hc
  rw [c_sumOf h h5 n8 p6 p7, sumI_congr n (fun i hi' => q9 i (by omega))]
theorem m_tsum (h : Sh σ) {n : Nat} (h5 : hi σ 37 3 = nI n) (n8 : n ≤ 8) (ht : Ok σ t 100) (hl' : (hk σ t).2 = 27) (hc : MH σ t 0 a) : f_X3_tired (some 37) (some t) σ = some (sumI a.tired n, σ) := by
  have e : sumI (fun i => hi σ t (8 + i)) n = sumI a.tired n := sumI_congr n (fun i hi' => by have := hc.2.1 i (by omega); simp only [Nat.zero_add] at this; exact this)
  rw [m_tired h h5 n8 ht hl', e]
end hs
/-! numbers drawn -/
def dr (s : Int32) : Int32 := s * 1103515245 + 12345
def dv (s : Int32) (m : Nat) : Nat := (s.toUInt32 >>> 16).toNat % m
theorem ush_16 (s : Int32) : ush s 16 = nI (s.toUInt32 >>> 16).toNat := by
  show (s.toUInt32 >>> 16).toInt32 = _
  apply Int32.toBitVec_inj.mp
  rw [tb32]
  show (s.toUInt32 >>> 16).toBitVec = BitVec.ofNat 32 (s.toUInt32 >>> 16).toBitVec.toNat
  rw [BitVec.ofNat_toNat, BitVec.setWidth_eq]
theorem ush_lt (s : Int32) : (s.toUInt32 >>> 16).toNat < 2 ^ 31 := by
  rw [UInt32.toNat_shiftRight]
  have h1 := s.toUInt32.toNat_lt
  have h2 : (16 : UInt32).toNat % 32 = 16 := rfl
  rw [h2, Nat.shiftRight_eq_div_pow]
  omega
section drawn
variable {σ : Hp}
theorem c_draws (hs : Sh σ) {m : Nat} (hm : 0 < m) (hm' : m < 2 ^ 15) : f_X1_draws (some 0) (nI m) σ = some (nI (dv (dr (hi σ 0 48)) m), wI σ 0 48 (dr (hi σ 0 48))) := by
  refine wp_eq ?_
  have h0 : ¬ nI m = 0 := by rw [n_0, nI_eq_l (by omega) (by decide)]; omega
  unfold f_X1_draws
  rw [wp_gI]
  refine ⟨so_0 hs, ?_⟩
  rw [wp_pI]
  refine ⟨so_0 hs, rfl, ?_⟩
  rw [wp_gI]
  refine ⟨so_0 (σ := wI σ 0 48 (hi σ 0 48 * 1103515245 + 12345)) hs, ?_⟩
  rw [hi_eq, wp_idv]
  refine ⟨h0, ?_⟩
  rw [wp_some, ush_16, nI_rem (ush_lt _) (by omega)]
  exact ⟨rfl, rfl⟩
theorem m_draw (hs : Sh σ) {m : Nat} (hm : 0 < m) (hm' : m < 2 ^ 15) : f_X3_draw (some 37) (nI m) σ = some (nI (dv (dr (hi σ 37 46)) m), wI σ 37 46 (dr (hi σ 37 46))) := by
  refine wp_eq ?_
  have h0 : ¬ nI m = 0 := by rw [n_0, nI_eq_l (by omega) (by decide)]; omega
  unfold f_X3_draw
  rw [wp_gI]
  refine ⟨so_37 hs, ?_⟩
  rw [wp_pI]
  refine ⟨so_37 hs, rfl, ?_⟩
  rw [wp_gI]
  refine ⟨so_37 (σ := wI σ 37 46 (hi σ 37 46 * 1103515245 + 12345)) hs, ?_⟩
  rw [hi_eq, wp_idv]
  refine ⟨h0, ?_⟩
  rw [wp_some, ush_16, nI_rem (ush_lt _) (by omega)]
  exact ⟨rfl, rfl⟩
end drawn
