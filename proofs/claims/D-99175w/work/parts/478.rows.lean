/-! PURE 58: some rows again, for simp to keep track of -/
section rows4
variable {σ : Hp} {a i : Nat} {x : Int32} {y : Int64} {z : Option Nat}
theorem y_iL : hi (wL σ a i y) = hi σ := (Eq.refl (hi σ)).trans (Eq.refl _)
theorem y_iR : hi (wR σ a i z) = hi σ := (Eq.refl (hi σ)).trans (Eq.refl _)
theorem y_lI : hl (wI σ a i x) = hl σ := (Eq.refl (hl σ)).trans (Eq.refl _)
theorem y_lR : hl (wR σ a i z) = hl σ := (Eq.refl (hl σ)).trans (Eq.refl _)
theorem y_rI : hr (wI σ a i x) = hr σ := (Eq.refl (hr σ)).trans (Eq.refl _)
theorem y_rL : hr (wL σ a i y) = hr σ := (Eq.refl (hr σ)).trans (Eq.refl _)
theorem y_jn {α β : Type} {P : β → Hp → Prop} {R : α → Hp → Option (β × Hp)} {B : (α → Hp → Option (β × Hp)) → Option (β × Hp)} : wp (jn R B) P ↔ wp (B R) P := ⟨fun h => h, fun h => h⟩
theorem y_nn {β : Type} {P : β → Hp → Prop} {K : Option (β × Hp)} : wp (nn (some a) K) P ↔ wp K P := ⟨fun h => h, fun h => h⟩
end rows4
