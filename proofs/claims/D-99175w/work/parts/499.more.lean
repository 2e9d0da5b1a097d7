/-! PURE 68b: some more rows -/
theorem l_01 : ((0 : Int32) = 1) = False := by decide
section more
variable {σ τ : Hp} {D F G : List Nat} {l : List Int64}
theorem RowC.fr (h : RowC σ l) (f : Fr D F G σ τ) (q : (dn D F G 0 52 && !D.contains 36) = true) : RowC τ l := by
  simp only [Bool.and_eq_true, Bool.not_eq_true'] at q
  exact ⟨(f.i q.1).trans h.1, h.2.1, fun k hk' => (f.l (dn_out q.2 (by decide) (by decide))).trans (h.2.2 k hk')⟩
theorem RowM.fr (h : RowM σ l) (f : Fr D F G σ τ) (q : (dn D F G 37 10 && !D.contains 43) = true) : RowM τ l := by
  simp only [Bool.and_eq_true, Bool.not_eq_true'] at q
  exact ⟨(f.i q.1).trans h.1, h.2.1, fun k hk' => (f.l (dn_out q.2 (by decide) (by decide))).trans (h.2.2 k hk')⟩
end more
/-! conditions, without the 'motive' -/
section ites
variable {γ : Type} {A B : γ} {a b : Nat}
theorem ite_le (ha : a < 2 ^ 31) (hb : b < 2 ^ 31) : (if nI a ≤ nI b then A else B) = if a ≤ b then A else B := by simp only [nI_le_l ha hb]
theorem ite_lt (ha : a < 2 ^ 31) (hb : b < 2 ^ 31) : (if nI a < nI b then A else B) = if a < b then A else B := by simp only [nI_lt_l ha hb]
theorem ite_eq (ha : a < 2 ^ 31) (hb : b < 2 ^ 31) : (if nI a = nI b then A else B) = if a = b then A else B := by simp only [nI_eq_l ha hb]
theorem ite_eq0 (ha : a < 2 ^ 31) : (if nI a = 0 then A else B) = if a = 0 then A else B := by simp only [l_eq0 ha]
theorem ite_le0 (ha : a < 2 ^ 31) : (if nI a ≤ 0 then A else B) = if a = 0 then A else B := by simp only [l_le0 ha]
end ites
