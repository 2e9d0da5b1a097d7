/-! PURE 80: how the class reads a text -/
/-- the class reads c up to e, at p -/
def CS (σ : Hp) (c : Nat → Int32) (e p : Nat) : Prop := Sh σ ∧ Ends c e ∧ e ≤ 80 ∧ p ≤ e ∧ hi σ 0 11 = nI p ∧ hi σ 0 12 = nI e ∧ ∀ q, q < e → hi σ 10 q = c q ∧ ∃ k, k < 256 ∧ c q = nI k
def atC (σ : Hp) (q : Nat) : Hp := wI σ 0 11 (nI q)
/-- a value's first place in a row -/
def idx (v : Int32) : List Int32 → Nat → Int32
  | [], _ => -1
  | b :: l, k => if b = v then nI k else idx v l (k + 1)
/-- a sign's place in a String constant -/
def amI (x : Nat) (v : Int32) : Int32 := idx (i2b v) (strByt.getD x []) 0
section ctext
variable {σ τ : Hp} {c : Nat → Int32} {e p : Nat}
theorem atC_fr {q : Nat} : Fr [] [11] [] σ (atC σ q) := Fr.refl.putI rfl
theorem atC_at {q q' : Nat} : atC (atC σ q) q' = atC σ q' := wI_wI
theorem CS.go (h : CS σ c e p) {q : Nat} (hq : q ≤ e) : CS (atC σ q) c e q := ⟨atC_fr.sh h.1 rfl, h.2.1, h.2.2.1, hq, hi_eq, h.2.2.2.2.2.1, h.2.2.2.2.2.2⟩
theorem atC_id (h : CS σ c e p) : atC σ p = σ := wI_id h.2.2.2.2.1
theorem CS.val (h : CS σ c e p) : c p = -1 ∨ ∃ k, k < 256 ∧ c p = nI k := by
  by_cases hp : p < e
  · exact Or.inr (h.2.2.2.2.2.2 p hp).2
  · exact Or.inl (h.2.1 p (by omega))
theorem c_isAt (h : CS σ c e p) {x : Int32} (hx : x ≠ -1) : f_X1_isAt (some 0) x σ = some (b2 (c p = x), σ) := by
  obtain ⟨hs, h1, h2, h3, h4, h5, h6⟩ := h
  unfold f_X1_isAt
  rw [e_gI (so_0 hs), e_gI (so_0 hs), h4, h5]
  by_cases hp : p < e
  · rw [if_neg (nI_ge hp (by omega)), e_gR (so_0 hs), sp_0_9 hs, e_gI (so_0 hs), h4, e_lI (so_10 hs) (by rw [sl_10 hs, inb_nI (by omega)]; omega), ix_nI (by omega), (h6 p hp).1]
    by_cases e : c p = x
    · rw [if_pos e, e_rz1, b2, if_pos e]
    · rw [if_neg e, e_rz0, b2, if_neg e]
  · rw [if_pos (nI_le (by omega) (by omega)), e_rz0, h1 p (by omega), b2, if_neg (fun z => hx z.symm)]
theorem c_takes (h : CS σ c e p) {x : Int32} (hx : x ≠ -1) : f_X1_takes (some 0) x σ = some (b2 (c p = x), if c p = x then atC σ (p + 1) else σ) := by
  have hid := atC_id h
  have h4 := h.2.2.2.2.1
  unfold f_X1_takes jn
  rw [e_ob (so_0 h.1), c_isAt h hx, e_bnd, e_gI (so_0 h.1), h4]
  dsimp only
  rw [b2_ite]
  by_cases e : c p = x
  · rw [if_pos e, if_pos e, e_pI (so_0 h.1), nI_1, e_rzb]; rfl
  · rw [if_neg e, if_neg e, e_pI (so_0 h.1), l_add0, e_rzb]
    show some (_, atC σ p) = _
    rw [hid]
theorem c_isDigit (h : CS σ c e p) : f_X1_isDigit (some 0) σ = some (b2 (isDig (c p)), σ) := by
  obtain ⟨hs, h1, h2, h3, h4, h5, h6⟩ := h
  unfold f_X1_isDigit
  rw [e_gI (so_0 hs), e_gI (so_0 hs), h4, h5]
  by_cases hp : p < e
  · rw [if_neg (nI_ge hp (by omega)), e_gR (so_0 hs), sp_0_9 hs, e_gI (so_0 hs), h4, e_lI (so_10 hs) (by rw [sl_10 hs, inb_nI (by omega)]; omega), ix_nI (by omega), (h6 p hp).1, show (48 : Int64) = Int32.toInt64 48 from rfl, show (57 : Int64) = Int32.toInt64 57 from rfl, c_in, e_bnd, b2_ite]
    by_cases e : isDig (c p)
    · rw [if_pos e, e_rz1, b2, if_pos e]
    · rw [if_neg e, e_rz0, b2, if_neg e]
  · rw [if_pos (nI_le (by omega) (by omega)), e_rz0, h1 p (by omega), b2, if_neg (fun z => absurd z.1 (by decide))]
theorem i32_as (x y : Int32) : 10 * x + y - 48 = 10 * x + (y - 48) := by
  rw [Int32.sub_eq_add_neg, Int32.sub_eq_add_neg, Int32.add_assoc]
theorem c_number_go {k : Nat} (hk' : k ≤ 10) : ∀ m j v σ p, k - j < m → j ≤ k → CS σ c e p → lp m (f_X1_number_b13 (some 0) (nI k) (fun a σ => some (a, σ))) (v, nI j) σ = some ((pNum c (k - j) v p).1, atC σ (pNum c (k - j) v p).2) := by
  intro m
  induction m with
  | zero => intro j v σ p h; omega
  | succ m ih =>
    intro j v σ p hm hj h
    have hid := atC_id h
    show f_X1_number_b13 (some 0) (nI k) (fun a σ => some (a, σ)) (lp m (f_X1_number_b13 (some 0) (nI k) (fun a σ => some (a, σ)))) (v, nI j) σ = _
    generalize hag : lp m (f_X1_number_b13 (some 0) (nI k) (fun a σ => some (a, σ))) = ag
    unfold f_X1_number_b13
    dsimp only
    by_cases hjk : k ≤ j
    · rw [if_pos (nI_le hjk (by omega)), show k - j = 0 by omega]
      show some (v, σ) = some (v, atC σ p)
      rw [hid]
    · rw [if_neg (nI_ge (by omega) (by omega)), e_ob (so_0 h.1), c_isDigit h, e_bnd, b2_ite]
      obtain ⟨d, hd⟩ : ∃ d, k - j = d + 1 := ⟨k - j - 1, by omega⟩
      by_cases hdg : isDig (c p)
      · have hlt := h.2.1.lt rfl (dig_ne hdg)
        have h4 := h.2.2.2.2.1
        have h80 := h.2.2.1
        rw [if_pos hdg, e_gR (so_0 h.1), sp_0_9 h.1, e_gI (so_0 h.1), h4, e_lI (so_10 h.1) (by rw [sl_10 h.1, inb_nI (by omega)]; omega), ix_nI (by omega), (h.2.2.2.2.2.2 p hlt).1, e_gI (so_0 h.1), h4, e_pI (so_0 h.1), nI_1, nI_1, i32_as]
        rw [← hag]
        show lp m (f_X1_number_b13 (some 0) (nI k) (fun a σ => some (a, σ))) (10 * v + (c p - 48), nI (j + 1)) (atC σ (p + 1)) = _
        rw [ih (j + 1) _ _ (p + 1) (by omega) (by omega) (h.go hlt), atC_at, hd, show k - (j + 1) = d by omega, show pNum c (d + 1) v p = pNum c d (10 * v + (c p - 48)) (p + 1) from if_pos hdg]
      · rw [if_neg hdg, hd, show pNum c (d + 1) v p = (v, p) from if_neg hdg]
        show some (v, σ) = some (v, atC σ p)
        rw [hid]
theorem c_number (h : CS σ c e p) {k : Nat} (hk' : k ≤ 10) (hd : isDig (c p)) : f_X1_number (some 0) (nI k) σ = some ((pNum c k 0 p).1, atC σ (pNum c k 0 p).2) := by
  unfold f_X1_number
  rw [e_ob (so_0 h.1), c_isDigit h, e_bnd, b2_ite, if_pos hd]
  exact c_number_go hk' 2000 0 0 σ p (by omega) (Nat.zero_le _) h
theorem c_numberNot (h : CS σ c e p) {v : Int32} (hd : ¬ isDig (c p)) : f_X1_number (some 0) v σ = some (-1, σ) := by
  unfold f_X1_number
  rw [e_ob (so_0 h.1), c_isDigit h, e_bnd, b2_ite, if_neg hd]
theorem j_idx {x : Nat} (hx : x < 8) {w : Int32} : ∀ m n i, (strByt.getD x []).length - i = m → m < n → i ≤ (strByt.getD x []).length → lp n (f_J2_indexOfChar_b7 (8 + x) (nI (strByt.getD x []).length) w (fun _ σ => some (-1, σ))) (nI i) σ = some (idx w ((strByt.getD x []).drop i) i, σ) := by
  have hl : ∀ x, x < 8 → strLen.getD x 0 = (strByt.getD x []).length ∧ (strByt.getD x []).length ≤ 9 := by decide
  obtain ⟨l1, l2⟩ := hl x hx
  intro m
  induction m with
  | zero =>
    intro n i hm hn' hi'
    obtain ⟨n, rfl⟩ : ∃ k, n = k + 1 := ⟨n - 1, by omega⟩
    show f_J2_indexOfChar_b7 (8 + x) (nI (strByt.getD x []).length) w (fun _ σ => some (-1, σ)) _ (nI i) σ = _
    unfold f_J2_indexOfChar_b7
    rw [if_pos (nI_le (by omega) (by omega)), List.drop_eq_nil_of_le (by omega)]
    rfl
  | succ m ih =>
    intro n i hm hn' hi'
    obtain ⟨n, rfl⟩ : ∃ k, n = k + 1 := ⟨n - 1, by omega⟩
    show f_J2_indexOfChar_b7 (8 + x) (nI (strByt.getD x []).length) w (fun _ σ => some (-1, σ)) (lp n (f_J2_indexOfChar_b7 (8 + x) (nI (strByt.getD x []).length) w (fun _ σ => some (-1, σ)))) (nI i) σ = _
    generalize hag : lp n (f_J2_indexOfChar_b7 (8 + x) (nI (strByt.getD x []).length) w (fun _ σ => some (-1, σ))) = ag
    unfold f_J2_indexOfChar_b7 lS
    have hlt : i < (strByt.getD x []).length := by omega
    have hc : (8 ≤ 8 + x ∧ 8 + x < 16) ∧ ¬ (nI i < 0 ∨ strLen.getD (8 + x - 8) 0 ≤ (nI i).toNatClampNeg) := by
      rw [show 8 + x - 8 = x by omega, l1, nI_clamp (by omega)]
      exact ⟨by omega, fun z => by
        rcases z with z | z
        · exact nI_pos (by omega) z
        · omega⟩
    rw [if_neg (nI_ge hlt (by omega)), if_pos hc, nI_clamp (by omega), show 8 + x - 8 = x by omega, List.drop_eq_getElem_cons hlt, List.getD_eq_getElem?_getD, List.getElem?_eq_getElem hlt, Option.getD_some]
    dsimp only
    show _ = some (if (strByt.getD x [])[i] = w then nI i else idx w ((strByt.getD x []).drop (i + 1)) (i + 1), σ)
    by_cases hb : (strByt.getD x [])[i] = w
    · rw [if_pos hb, if_pos hb]
    · rw [if_neg hb, if_neg hb, nI_1, ← hag]
      exact ih n (i + 1) (by omega) (by omega) (by omega)
theorem j_indexOf {x k : Nat} (hx : x < 8) (hk' : k < 256) : f_J1_indexOf x (nI k) σ = some (amI x (nI k), σ) := by
  have hl : ∀ x, x < 8 → strLen.getD x 0 = (strByt.getD x []).length ∧ (strByt.getD x []).length ≤ 9 ∧ 0 < (strByt.getD x []).length := by decide
  obtain ⟨l1, l2, l3⟩ := hl x hx
  have e1 : f_J1_isLatin1 x σ = some (1, σ) := by
    unfold f_J1_isLatin1 sV
    rw [if_neg (by decide), if_pos hx, if_pos rfl, e_rz1]
  have e2 : f_J1_length x σ = some (nI (strByt.getD x []).length, σ) := by
    unfold f_J1_length f_J1_coder sV nS
    rw [if_pos hx, if_pos (by omega), show 8 + x - 8 = x by omega, l1, if_pos hx, if_neg (by decide)]
    dsimp only
    rw [if_pos hx, e_rz0, e_bnd]
    show some (shr (nI _) (nI 0), σ) = _
    rw [shr_nI (by omega) (by decide), Nat.shiftRight_zero]
  have e3 : f_J2_canEncode (nI k) σ = some (1, σ) := by
    unfold f_J2_canEncode
    rw [if_neg (nI_pos (by omega)), n_255, if_neg (by rw [nI_lt_l (by decide) (by omega)]; omega), e_rz1]
  have e4 : f_J2_indexOfChar (8 + x) (nI k) (nI 0) (nI (strByt.getD x []).length) σ = some (amI x (nI k), σ) := by
    unfold f_J2_indexOfChar
    exact j_idx hx _ 2000 0 rfl (by omega) (Nat.zero_le _)
  unfold f_J1_indexOf f_J1_indexOf_2 f_J2_indexOf sV nS
  rw [if_pos hx, if_pos hx, e1, e_bnd, if_neg (by decide), if_pos hx, if_pos hx, e2, e_bnd, e3, e_bnd, if_neg (by decide), if_pos (by omega), show 8 + x - 8 = x by omega, l1]
  have e5 : imax (0 : Int32) 0 = nI 0 := rfl
  have e6 : imin (nI (strByt.getD x []).length) (Int32.ofNat (strByt.getD x []).length) = nI (strByt.getD x []).length := by
    show imin (nI _) (nI _) = _
    rw [nI_min (by omega) (by omega), Nat.min_self]
  dsimp only
  rw [e5, e6, if_pos (by rw [nI_lt_l (by decide) (by omega)]; exact l3), e4, e_bnd, e_bnd, e_bnd]
theorem c_among (h : CS σ c e p) {x : Nat} (hx : x < 8) : f_X1_among (some 0) x σ = some (if c p = -1 ∨ c p = 0 then -1 else amI x (c p), σ) := by
  obtain ⟨hs, h1, h2, h3, h4, h5, h6⟩ := h
  unfold f_X1_among
  rw [e_gI (so_0 hs), e_gI (so_0 hs), h4, h5]
  by_cases hp : p < e
  · obtain ⟨g1, k, g2, g3⟩ := h6 p hp
    rw [if_neg (nI_ge hp (by omega)), e_gR (so_0 hs), sp_0_9 hs, e_gI (so_0 hs), h4, e_lI (so_10 hs) (by rw [sl_10 hs, inb_nI (by omega)]; omega), ix_nI (by omega), g1, g3]
    by_cases hz : k = 0
    · rw [if_pos (by rw [hz]; decide), if_pos (Or.inr (by rw [hz]; rfl))]
    · rw [if_neg (by rw [l_le0 (by omega)]; exact hz), if_neg (fun z => by
        rcases z with z | z
        · exact m1_ne (by omega) z
        · rw [l_eq0 (by omega)] at z; exact hz z), e_gR (so_0 hs), sp_0_9 hs, e_gI (so_0 hs), h4, e_lI (so_10 hs) (by rw [sl_10 hs, inb_nI (by omega)]; omega), ix_nI (by omega), g1, g3]
      unfold sV
      rw [if_pos hx, j_indexOf hx g2, e_bnd]
  · rw [if_pos (nI_le (by omega) (by omega)), h1 p (by omega), if_pos (Or.inl rfl)]
/-- a sign's place among some, or -1 -/
def plI (x : Nat) (v : Int32) : Int32 := if v = -1 ∨ v = 0 then -1 else amI x v
theorem c_among' (h : CS σ c e p) {x : Nat} (hx : x < 8) : f_X1_among (some 0) x σ = some (plI x (c p), σ) := c_among h hx
theorem c_takesOf (h : CS σ c e p) {x : Nat} (hx : x < 8) : f_X1_takesOf (some 0) x σ = some (plI x (c p), if plI x (c p) < 0 then σ else atC σ (p + 1)) := by
  have hid := atC_id h
  have h4 := h.2.2.2.2.1
  unfold f_X1_takesOf jn
  rw [e_ob (so_0 h.1), c_among' h hx, e_bnd, e_gI (so_0 h.1), h4]
  dsimp only
  by_cases e : plI x (c p) < 0
  · rw [if_pos e, if_pos e, e_pI (so_0 h.1), l_add0]
    show some (_, atC σ p) = _
    rw [hid]
  · rw [if_neg e, if_neg e, e_pI (so_0 h.1), nI_1]; rfl
end ctext
theorem pl_thing {v : Int32} (hv : v = -1 ∨ ∃ k, k < 256 ∧ v = nI k) : (plI 3 v < 0 ↔ ltrI v = none) := by
  rcases hv with rfl | ⟨k, hk', rfl⟩
  · decide
  · have : ∀ k, k < 256 → (plI 3 (nI k) < 0 ↔ ltrI (nI k) = none) := by decide +kernel
    exact this k hk'
theorem pl_ops {v : Int32} (hv : v = -1 ∨ ∃ k, k < 256 ∧ v = nI k) : (plI 4 v < 0 ↔ ¬ (v = 60 ∨ v = 62 ∨ v = 61)) ∧ (plI 5 v < 0 ↔ ¬ (v = 43 ∨ v = 45)) ∧ (plI 6 v < 0 ↔ ¬ (v = 42 ∨ v = 47)) ∧ (plI 7 v < 0 ↔ ¬ (v = 110 ∨ v = 105 ∨ v = 103 ∨ v = 120)) := by
  rcases hv with rfl | ⟨k, hk', rfl⟩
  · decide
  · have : ∀ k, k < 256 → (plI 4 (nI k) < 0 ↔ ¬ (nI k = 60 ∨ nI k = 62 ∨ nI k = 61)) ∧ (plI 5 (nI k) < 0 ↔ ¬ (nI k = 43 ∨ nI k = 45)) ∧ (plI 6 (nI k) < 0 ↔ ¬ (nI k = 42 ∨ nI k = 47)) ∧ (plI 7 (nI k) < 0 ↔ ¬ (nI k = 110 ∨ nI k = 105 ∨ nI k = 103 ∨ nI k = 120)) := by decide +kernel
    exact this k hk'
theorem pl_nums {v : Int32} (hv : v = -1 ∨ ∃ k, k < 256 ∧ v = nI k) : plI 0 v = (if 49 ≤ v ∧ v ≤ 52 then v - 49 else -1) ∧ plI 1 v = (if 49 ≤ v ∧ v ≤ 57 then v - 49 else -1) ∧ plI 2 v = (if 97 ≤ v ∧ v ≤ 104 then v - 97 else -1) := by
  rcases hv with rfl | ⟨k, hk', rfl⟩
  · decide
  · have : ∀ k, k < 256 → plI 0 (nI k) = (if 49 ≤ nI k ∧ nI k ≤ 52 then nI k - 49 else -1) ∧ plI 1 (nI k) = (if 49 ≤ nI k ∧ nI k ≤ 57 then nI k - 49 else -1) ∧ plI 2 (nI k) = (if 97 ≤ nI k ∧ nI k ≤ 104 then nI k - 97 else -1) := by decide +kernel
    exact this k hk'
