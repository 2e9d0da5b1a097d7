/-! PURE 103: riders come: what it makes of the view -/
def rdC (T : TX) : Nat → Int32 := fun p => if p < min T.1 76 then T.2 p else -1
def rdL (V : VS) : Bool × Nat × Nat × (Nat → LN) := lnsP (rdC V.T) V.P.n 9 0 0 (fun _ => (0, 0, 0))
def ext (f : Nat → Nat) (n i : Nat) (g : Nat → Nat) : Nat → Nat := fun r => if n ≤ r ∧ r < n + i then g (r - n) else f r
def rdP (P : Pk) (f : Nat → LN) (i : Nat) : Pk := (P.n + i, P.hrs, P.beats, ext P.most P.n i (fun j => (f j).1), ext P.width P.n i (fun j => (f j).2.1), ext P.can P.n i (fun j => (f j).2.2), P.rule)
def rdA (n : Nat) (a : HS) (i : Nat) : HS := (a.1, (fun r => if n ≤ r ∧ r < n + i then 0 else a.tired r), a.2.2)
def rdR (V : VS) : Int32 × VS := if V.T.1 = 0 then (0, sT V (0, V.T.2)) else if (rdL V).1 = true ∧ (rdL V).2.1 = V.T.1 then (nI (rdL V).2.2.1, (rdP V.P (rdL V).2.2.2 (rdL V).2.2.1, rdA V.P.n V.a (rdL V).2.2.1, (0, V.T.2), (0, V.U.2), V.K, V.F, V.w, V.ch + 1)) else (-1 - nI (rdL V).2.1, sT V (0, V.T.2))
theorem HOK.mono {n m : Nat} {a : HS} (h : HOK n a) (hm : n ≤ m) : HOK m a := ⟨Nat.lt_of_lt_of_le h.1 (Nat.pow_le_pow_right (by decide) hm), fun j hj => by
  rcases h.2 j hj with e | ⟨r, hr', e⟩
  · exact Or.inl e
  · exact Or.inr ⟨r, by omega, e⟩⟩
theorem FOK.mono {n m : Nat} {F : FD} (h : FOK n F) (hm : n ≤ m) : FOK m F := ⟨h.1, fun k hk' => ⟨(h.2 k hk').1, Nat.lt_of_lt_of_le (h.2 k hk').2 hm⟩⟩
theorem rd_ok {V : VS} (h : VOK V) : VOK (rdR V).2 := by
  unfold rdR
  split
  · exact t0_ok h
  · split
    · refine ⟨⟨Nat.zero_le _, fun p hp => absurd hp (Nat.not_lt_zero _)⟩, ⟨Nat.zero_le _, fun k hk' => absurd hk' (Nat.not_lt_zero _)⟩, fun i b hi' hb => (h.2.2.1 i b hi' hb).mono (Nat.le_add_right _ _), h.2.2.2.mono (Nat.le_add_right _ _)⟩
    · exact t0_ok h
theorem rdA_ok {n i : Nat} {a : HS} (h : HOK n a) : HOK (n + i) (rdA n a i) := HOK.mono (a := rdA n a i) (n := n) ⟨h.1, h.2⟩ (Nat.le_add_right _ _)
theorem rdP_ok {P : Pk} (h : POK P) {f : Nat → LN} {i : Nat} (hi' : P.n + i ≤ 8) (hf : ∀ j, lnOK (f j)) : POK (rdP P f i) := by
  obtain ⟨h1, h2, h3, h4⟩ := h
  refine ⟨hi', h2, h3, fun r => ?_⟩
  obtain ⟨a1, a2, a3⟩ := h4 r
  obtain ⟨b1, b2', b3⟩ := hf (r - P.n)
  show ext P.most P.n i (fun j => (f j).1) r ≤ 4 ∧ ext P.width P.n i (fun j => (f j).2.1) r ≤ 9 ∧ ext P.can P.n i (fun j => (f j).2.2) r < 256
  unfold ext
  by_cases c : P.n ≤ r ∧ r < P.n + i
  · rw [if_pos c, if_pos c, if_pos c]; exact ⟨b1, b2', b3⟩
  · rw [if_neg c, if_neg c, if_neg c]; exact ⟨a1, a2, a3⟩
theorem ext_at {f g : Nat → Nat} {n i : Nat} : ext f n (i + 1) g (n + i) = g i := by
  unfold ext
  rw [if_pos (by omega), Nat.add_sub_cancel_left]
theorem ext_lt {f g : Nat → Nat} {n i r : Nat} (h : r < n + i) : ext f n (i + 1) g r = ext f n i g r := by
  unfold ext
  by_cases c : n ≤ r
  · rw [if_pos (by omega), if_pos (by omega)]
  · rw [if_neg (by omega), if_neg (by omega)]
