/-! PURE 105: riders come (the class): no rider yet -/
section crdl
variable {σ τ : Hp} {P : Pk} {a : HS} {k : Nat} {f : Nat → LN}
theorem ext_0 {f g : Nat → Nat} {n : Nat} : ext f n 0 g = f := by
  funext r
  unfold ext
  rw [if_neg (by omega)]
theorem rdP_0 : rdP P f 0 = P := by
  unfold rdP
  rw [ext_0, ext_0, ext_0]
  rfl
theorem rdA_0 {n : Nat} : rdA n a 0 = a := by
  unfold rdA
  have : (fun r => if n ≤ r ∧ r < n + 0 then (0 : Int32) else a.tired r) = a.tired := funext fun r => if_neg (by omega)
  rw [this]
  rfl
end crdl
