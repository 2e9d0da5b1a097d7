/-! PURE 15: steps under the shape, cell by cell -/
section rows3
variable {β : Type} {P : β → Hp → Prop} {σ : Hp}
theorem and_iff_r {p q : Prop} (h : p) : p ∧ q ↔ q := ⟨fun z => z.2, fun z => ⟨h, z⟩⟩
theorem wr_0_0 {K : Option Nat → Option (β × Hp)} (h : Sh σ) : wp (gR 0 0 σ (some 0) K) P ↔ wp (K (some 1)) P := by rw [wp_gR, sp_0_0 h]; exact and_iff_r (so_0 h)
theorem wr_0_1 {K : Option Nat → Option (β × Hp)} (h : Sh σ) : wp (gR 0 1 σ (some 0) K) P ↔ wp (K (some 4)) P := by rw [wp_gR, sp_0_1 h]; exact and_iff_r (so_0 h)
theorem wr_0_2 {K : Option Nat → Option (β × Hp)} (h : Sh σ) : wp (gR 0 2 σ (some 0) K) P ↔ wp (K (some 7)) P := by rw [wp_gR, sp_0_2 h]; exact and_iff_r (so_0 h)
theorem wr_0_3 {K : Option Nat → Option (β × Hp)} (h : Sh σ) : wp (gR 0 3 σ (some 0) K) P ↔ wp (K (some 8)) P := by rw [wp_gR, sp_0_3 h]; exact and_iff_r (so_0 h)
theorem wr_0_4 {K : Option Nat → Option (β × Hp)} (h : Sh σ) : wp (gR 0 4 σ (some 0) K) P ↔ wp (K (some 9)) P := by rw [wp_gR, sp_0_4 h]; exact and_iff_r (so_0 h)
theorem wr_0_9 {K : Option Nat → Option (β × Hp)} (h : Sh σ) : wp (gR 0 9 σ (some 0) K) P ↔ wp (K (some 10)) P := by rw [wp_gR, sp_0_9 h]; exact and_iff_r (so_0 h)
theorem wr_0_14 {K : Option Nat → Option (β × Hp)} (h : Sh σ) : wp (gR 0 14 σ (some 0) K) P ↔ wp (K (some 11)) P := by rw [wp_gR, sp_0_14 h]; exact and_iff_r (so_0 h)
theorem wr_0_15 {K : Option Nat → Option (β × Hp)} (h : Sh σ) : wp (gR 0 15 σ (some 0) K) P ↔ wp (K (some 12)) P := by rw [wp_gR, sp_0_15 h]; exact and_iff_r (so_0 h)
theorem wr_0_16 {K : Option Nat → Option (β × Hp)} (h : Sh σ) : wp (gR 0 16 σ (some 0) K) P ↔ wp (K (some 13)) P := by rw [wp_gR, sp_0_16 h]; exact and_iff_r (so_0 h)
theorem wr_0_23 {K : Option Nat → Option (β × Hp)} (h : Sh σ) : wp (gR 0 23 σ (some 0) K) P ↔ wp (K (some 14)) P := by rw [wp_gR, sp_0_23 h]; exact and_iff_r (so_0 h)
theorem wr_0_24 {K : Option Nat → Option (β × Hp)} (h : Sh σ) : wp (gR 0 24 σ (some 0) K) P ↔ wp (K (some 15)) P := by rw [wp_gR, sp_0_24 h]; exact and_iff_r (so_0 h)
theorem wr_0_26 {K : Option Nat → Option (β × Hp)} (h : Sh σ) : wp (gR 0 26 σ (some 0) K) P ↔ wp (K (some 18)) P := by rw [wp_gR, sp_0_26 h]; exact and_iff_r (so_0 h)
theorem wr_0_27 {K : Option Nat → Option (β × Hp)} (h : Sh σ) : wp (gR 0 27 σ (some 0) K) P ↔ wp (K (some 19)) P := by rw [wp_gR, sp_0_27 h]; exact and_iff_r (so_0 h)
theorem wr_0_30 {K : Option Nat → Option (β × Hp)} (h : Sh σ) : wp (gR 0 30 σ (some 0) K) P ↔ wp (K (some 20)) P := by rw [wp_gR, sp_0_30 h]; exact and_iff_r (so_0 h)
theorem wr_0_31 {K : Option Nat → Option (β × Hp)} (h : Sh σ) : wp (gR 0 31 σ (some 0) K) P ↔ wp (K (some 21)) P := by rw [wp_gR, sp_0_31 h]; exact and_iff_r (so_0 h)
theorem wr_0_32 {K : Option Nat → Option (β × Hp)} (h : Sh σ) : wp (gR 0 32 σ (some 0) K) P ↔ wp (K (some 22)) P := by rw [wp_gR, sp_0_32 h]; exact and_iff_r (so_0 h)
theorem wr_0_33 {K : Option Nat → Option (β × Hp)} (h : Sh σ) : wp (gR 0 33 σ (some 0) K) P ↔ wp (K (some 23)) P := by rw [wp_gR, sp_0_33 h]; exact and_iff_r (so_0 h)
theorem wr_0_35 {K : Option Nat → Option (β × Hp)} (h : Sh σ) : wp (gR 0 35 σ (some 0) K) P ↔ wp (K (some 24)) P := by rw [wp_gR, sp_0_35 h]; exact and_iff_r (so_0 h)
theorem wr_0_36 {K : Option Nat → Option (β × Hp)} (h : Sh σ) : wp (gR 0 36 σ (some 0) K) P ↔ wp (K (some 25)) P := by rw [wp_gR, sp_0_36 h]; exact and_iff_r (so_0 h)
theorem wr_0_37 {K : Option Nat → Option (β × Hp)} (h : Sh σ) : wp (gR 0 37 σ (some 0) K) P ↔ wp (K (some 26)) P := by rw [wp_gR, sp_0_37 h]; exact and_iff_r (so_0 h)
theorem wr_0_38 {K : Option Nat → Option (β × Hp)} (h : Sh σ) : wp (gR 0 38 σ (some 0) K) P ↔ wp (K (some 27)) P := by rw [wp_gR, sp_0_38 h]; exact and_iff_r (so_0 h)
theorem wr_0_39 {K : Option Nat → Option (β × Hp)} (h : Sh σ) : wp (gR 0 39 σ (some 0) K) P ↔ wp (K (some 28)) P := by rw [wp_gR, sp_0_39 h]; exact and_iff_r (so_0 h)
theorem wr_0_40 {K : Option Nat → Option (β × Hp)} (h : Sh σ) : wp (gR 0 40 σ (some 0) K) P ↔ wp (K (some 29)) P := by rw [wp_gR, sp_0_40 h]; exact and_iff_r (so_0 h)
theorem wr_0_41 {K : Option Nat → Option (β × Hp)} (h : Sh σ) : wp (gR 0 41 σ (some 0) K) P ↔ wp (K (some 30)) P := by rw [wp_gR, sp_0_41 h]; exact and_iff_r (so_0 h)
theorem wr_0_45 {K : Option Nat → Option (β × Hp)} (h : Sh σ) : wp (gR 0 45 σ (some 0) K) P ↔ wp (K (some 31)) P := by rw [wp_gR, sp_0_45 h]; exact and_iff_r (so_0 h)
theorem wr_0_46 {K : Option Nat → Option (β × Hp)} (h : Sh σ) : wp (gR 0 46 σ (some 0) K) P ↔ wp (K (some 32)) P := by rw [wp_gR, sp_0_46 h]; exact and_iff_r (so_0 h)
theorem wr_0_47 {K : Option Nat → Option (β × Hp)} (h : Sh σ) : wp (gR 0 47 σ (some 0) K) P ↔ wp (K (some 33)) P := by rw [wp_gR, sp_0_47 h]; exact and_iff_r (so_0 h)
theorem wr_0_49 {K : Option Nat → Option (β × Hp)} (h : Sh σ) : wp (gR 0 49 σ (some 0) K) P ↔ wp (K (some 34)) P := by rw [wp_gR, sp_0_49 h]; exact and_iff_r (so_0 h)
theorem wr_0_50 {K : Option Nat → Option (β × Hp)} (h : Sh σ) : wp (gR 0 50 σ (some 0) K) P ↔ wp (K (some 35)) P := by rw [wp_gR, sp_0_50 h]; exact and_iff_r (so_0 h)
theorem wr_0_51 {K : Option Nat → Option (β × Hp)} (h : Sh σ) : wp (gR 0 51 σ (some 0) K) P ↔ wp (K (some 36)) P := by rw [wp_gR, sp_0_51 h]; exact and_iff_r (so_0 h)
theorem wr_1_0 {K : Option Nat → Option (β × Hp)} (h : Sh σ) : wp (gR 1 0 σ (some 1) K) P ↔ wp (K (some 2)) P := by rw [wp_gR, sp_1_0 h]; exact and_iff_r (so_1 h)
theorem wr_1_1 {K : Option Nat → Option (β × Hp)} (h : Sh σ) : wp (gR 1 1 σ (some 1) K) P ↔ wp (K (some 3)) P := by rw [wp_gR, sp_1_1 h]; exact and_iff_r (so_1 h)
theorem wr_4_0 {K : Option Nat → Option (β × Hp)} (h : Sh σ) : wp (gR 1 0 σ (some 4) K) P ↔ wp (K (some 5)) P := by rw [wp_gR, sp_4_0 h]; exact and_iff_r (so_4 h)
theorem wr_4_1 {K : Option Nat → Option (β × Hp)} (h : Sh σ) : wp (gR 1 1 σ (some 4) K) P ↔ wp (K (some 6)) P := by rw [wp_gR, sp_4_1 h]; exact and_iff_r (so_4 h)
theorem wr_15_0 {K : Option Nat → Option (β × Hp)} (h : Sh σ) : wp (gR 1 0 σ (some 15) K) P ↔ wp (K (some 16)) P := by rw [wp_gR, sp_15_0 h]; exact and_iff_r (so_15 h)
theorem wr_15_1 {K : Option Nat → Option (β × Hp)} (h : Sh σ) : wp (gR 1 1 σ (some 15) K) P ↔ wp (K (some 17)) P := by rw [wp_gR, sp_15_1 h]; exact and_iff_r (so_15 h)
theorem wr_37_0 {K : Option Nat → Option (β × Hp)} (h : Sh σ) : wp (gR 2 0 σ (some 37) K) P ↔ wp (K (some 38)) P := by rw [wp_gR, sp_37_0 h]; exact and_iff_r (so_37 h)
theorem wr_37_4 {K : Option Nat → Option (β × Hp)} (h : Sh σ) : wp (gR 2 4 σ (some 37) K) P ↔ wp (K (some 39)) P := by rw [wp_gR, sp_37_4 h]; exact and_iff_r (so_37 h)
theorem wr_37_5 {K : Option Nat → Option (β × Hp)} (h : Sh σ) : wp (gR 2 5 σ (some 37) K) P ↔ wp (K (some 40)) P := by rw [wp_gR, sp_37_5 h]; exact and_iff_r (so_37 h)
theorem wr_37_6 {K : Option Nat → Option (β × Hp)} (h : Sh σ) : wp (gR 2 6 σ (some 37) K) P ↔ wp (K (some 41)) P := by rw [wp_gR, sp_37_6 h]; exact and_iff_r (so_37 h)
theorem wr_37_7 {K : Option Nat → Option (β × Hp)} (h : Sh σ) : wp (gR 2 7 σ (some 37) K) P ↔ wp (K (some 42)) P := by rw [wp_gR, sp_37_7 h]; exact and_iff_r (so_37 h)
theorem wr_37_9 {K : Option Nat → Option (β × Hp)} (h : Sh σ) : wp (gR 2 9 σ (some 37) K) P ↔ wp (K (some 43)) P := by rw [wp_gR, sp_37_9 h]; exact and_iff_r (so_37 h)
theorem wr_37_17 {K : Option Nat → Option (β × Hp)} (h : Sh σ) : wp (gR 2 17 σ (some 37) K) P ↔ wp (K (some 44)) P := by rw [wp_gR, sp_37_17 h]; exact and_iff_r (so_37 h)
theorem wr_37_22 {K : Option Nat → Option (β × Hp)} (h : Sh σ) : wp (gR 2 22 σ (some 37) K) P ↔ wp (K (some 47)) P := by rw [wp_gR, sp_37_22 h]; exact and_iff_r (so_37 h)
theorem wr_37_23 {K : Option Nat → Option (β × Hp)} (h : Sh σ) : wp (gR 2 23 σ (some 37) K) P ↔ wp (K (some 48)) P := by rw [wp_gR, sp_37_23 h]; exact and_iff_r (so_37 h)
theorem wr_37_25 {K : Option Nat → Option (β × Hp)} (h : Sh σ) : wp (gR 2 25 σ (some 37) K) P ↔ wp (K (some 49)) P := by rw [wp_gR, sp_37_25 h]; exact and_iff_r (so_37 h)
theorem wr_37_26 {K : Option Nat → Option (β × Hp)} (h : Sh σ) : wp (gR 2 26 σ (some 37) K) P ↔ wp (K (some 50)) P := by rw [wp_gR, sp_37_26 h]; exact and_iff_r (so_37 h)
theorem wr_37_29 {K : Option Nat → Option (β × Hp)} (h : Sh σ) : wp (gR 2 29 σ (some 37) K) P ↔ wp (K (some 51)) P := by rw [wp_gR, sp_37_29 h]; exact and_iff_r (so_37 h)
theorem wr_37_30 {K : Option Nat → Option (β × Hp)} (h : Sh σ) : wp (gR 2 30 σ (some 37) K) P ↔ wp (K (some 52)) P := by rw [wp_gR, sp_37_30 h]; exact and_iff_r (so_37 h)
theorem wr_37_31 {K : Option Nat → Option (β × Hp)} (h : Sh σ) : wp (gR 2 31 σ (some 37) K) P ↔ wp (K (some 53)) P := by rw [wp_gR, sp_37_31 h]; exact and_iff_r (so_37 h)
theorem wr_37_32 {K : Option Nat → Option (β × Hp)} (h : Sh σ) : wp (gR 2 32 σ (some 37) K) P ↔ wp (K (some 54)) P := by rw [wp_gR, sp_37_32 h]; exact and_iff_r (so_37 h)
theorem wr_37_33 {K : Option Nat → Option (β × Hp)} (h : Sh σ) : wp (gR 2 33 σ (some 37) K) P ↔ wp (K (some 55)) P := by rw [wp_gR, sp_37_33 h]; exact and_iff_r (so_37 h)
theorem wr_37_34 {K : Option Nat → Option (β × Hp)} (h : Sh σ) : wp (gR 2 34 σ (some 37) K) P ↔ wp (K (some 56)) P := by rw [wp_gR, sp_37_34 h]; exact and_iff_r (so_37 h)
theorem wr_37_35 {K : Option Nat → Option (β × Hp)} (h : Sh σ) : wp (gR 2 35 σ (some 37) K) P ↔ wp (K (some 57)) P := by rw [wp_gR, sp_37_35 h]; exact and_iff_r (so_37 h)
theorem wr_37_36 {K : Option Nat → Option (β × Hp)} (h : Sh σ) : wp (gR 2 36 σ (some 37) K) P ↔ wp (K (some 58)) P := by rw [wp_gR, sp_37_36 h]; exact and_iff_r (so_37 h)
theorem wr_37_37 {K : Option Nat → Option (β × Hp)} (h : Sh σ) : wp (gR 2 37 σ (some 37) K) P ↔ wp (K (some 59)) P := by rw [wp_gR, sp_37_37 h]; exact and_iff_r (so_37 h)
theorem wr_37_38 {K : Option Nat → Option (β × Hp)} (h : Sh σ) : wp (gR 2 38 σ (some 37) K) P ↔ wp (K (some 60)) P := by rw [wp_gR, sp_37_38 h]; exact and_iff_r (so_37 h)
theorem wr_37_40 {K : Option Nat → Option (β × Hp)} (h : Sh σ) : wp (gR 2 40 σ (some 37) K) P ↔ wp (K (some 61)) P := by rw [wp_gR, sp_37_40 h]; exact and_iff_r (so_37 h)
theorem wr_37_41 {K : Option Nat → Option (β × Hp)} (h : Sh σ) : wp (gR 2 41 σ (some 37) K) P ↔ wp (K (some 62)) P := by rw [wp_gR, sp_37_41 h]; exact and_iff_r (so_37 h)
theorem wr_37_42 {K : Option Nat → Option (β × Hp)} (h : Sh σ) : wp (gR 2 42 σ (some 37) K) P ↔ wp (K (some 63)) P := by rw [wp_gR, sp_37_42 h]; exact and_iff_r (so_37 h)
theorem wr_37_43 {K : Option Nat → Option (β × Hp)} (h : Sh σ) : wp (gR 2 43 σ (some 37) K) P ↔ wp (K (some 64)) P := by rw [wp_gR, sp_37_43 h]; exact and_iff_r (so_37 h)
theorem wr_37_48 {K : Option Nat → Option (β × Hp)} (h : Sh σ) : wp (gR 2 48 σ (some 37) K) P ↔ wp (K (some 65)) P := by rw [wp_gR, sp_37_48 h]; exact and_iff_r (so_37 h)
theorem wr_37_49 {K : Option Nat → Option (β × Hp)} (h : Sh σ) : wp (gR 2 49 σ (some 37) K) P ↔ wp (K (some 66)) P := by rw [wp_gR, sp_37_49 h]; exact and_iff_r (so_37 h)
theorem wr_37_50 {K : Option Nat → Option (β × Hp)} (h : Sh σ) : wp (gR 2 50 σ (some 37) K) P ↔ wp (K (some 67)) P := by rw [wp_gR, sp_37_50 h]; exact and_iff_r (so_37 h)
theorem wo_0 {K : Nat → Option (β × Hp)} (h : Sh σ) : wp (ob 0 σ (some 0) K) P ↔ wp (K 0) P := by rw [wp_ob]; exact and_iff_r (so_0 h)
theorem wg_0 {k : Nat} {K : Int32 → Option (β × Hp)} (h : Sh σ) : wp (gI 0 k σ (some 0) K) P ↔ wp (K (hi σ 0 k)) P := wo_0 h
theorem wq_0 {k : Nat} {K : Option Nat → Option (β × Hp)} (h : Sh σ) : wp (gR 0 k σ (some 0) K) P ↔ wp (K (hr σ 0 k)) P := wo_0 h
theorem wi_0 {k : Nat} {v : Int32} {K : Hp → Option (β × Hp)} (h : Sh σ) : wp (pI 0 0 k σ (some 0) v K) P ↔ wp (K (wI σ 0 k v)) P := wo_0 h
theorem wu_0 {k : Nat} {v : Option Nat} {K : Hp → Option (β × Hp)} (h : Sh σ) : wp (pR 0 k σ (some 0) v K) P ↔ wp (K (wR σ 0 k v)) P := wo_0 h
theorem wo_1 {K : Nat → Option (β × Hp)} (h : Sh σ) : wp (ob 1 σ (some 1) K) P ↔ wp (K 1) P := by rw [wp_ob]; exact and_iff_r (so_1 h)
theorem wg_1 {k : Nat} {K : Int32 → Option (β × Hp)} (h : Sh σ) : wp (gI 1 k σ (some 1) K) P ↔ wp (K (hi σ 1 k)) P := wo_1 h
theorem wq_1 {k : Nat} {K : Option Nat → Option (β × Hp)} (h : Sh σ) : wp (gR 1 k σ (some 1) K) P ↔ wp (K (hr σ 1 k)) P := wo_1 h
theorem wi_1 {k : Nat} {v : Int32} {K : Hp → Option (β × Hp)} (h : Sh σ) : wp (pI 0 1 k σ (some 1) v K) P ↔ wp (K (wI σ 1 k v)) P := wo_1 h
theorem wu_1 {k : Nat} {v : Option Nat} {K : Hp → Option (β × Hp)} (h : Sh σ) : wp (pR 1 k σ (some 1) v K) P ↔ wp (K (wR σ 1 k v)) P := wo_1 h
theorem wl_2 {i : Nat} {K : Int32 → Option (β × Hp)} (h : Sh σ) (q : i < 8) : wp (lI 100 σ (some 2) (nI i) K) P ↔ wp (K (hi σ 2 i)) P := by rw [wp_lI, sl_2 h, inb_nI (by omega), ix_nI (by omega)]; exact and_iff_r ⟨so_2 h, q⟩
theorem ws_2 {i : Nat} {v : Int32} {K : Hp → Option (β × Hp)} (h : Sh σ) (q : i < 8) : wp (sI σ (some 2) (nI i) v K) P ↔ wp (K (wI σ 2 i v)) P := by rw [wp_sI, sl_2 h, inb_nI (by omega), ix_nI (by omega)]; exact and_iff_r ⟨so_2 h, q⟩
theorem wl_3 {i : Nat} {K : Int32 → Option (β × Hp)} (h : Sh σ) (q : i < 8) : wp (lI 100 σ (some 3) (nI i) K) P ↔ wp (K (hi σ 3 i)) P := by rw [wp_lI, sl_3 h, inb_nI (by omega), ix_nI (by omega)]; exact and_iff_r ⟨so_3 h, q⟩
theorem ws_3 {i : Nat} {v : Int32} {K : Hp → Option (β × Hp)} (h : Sh σ) (q : i < 8) : wp (sI σ (some 3) (nI i) v K) P ↔ wp (K (wI σ 3 i v)) P := by rw [wp_sI, sl_3 h, inb_nI (by omega), ix_nI (by omega)]; exact and_iff_r ⟨so_3 h, q⟩
theorem wo_4 {K : Nat → Option (β × Hp)} (h : Sh σ) : wp (ob 1 σ (some 4) K) P ↔ wp (K 4) P := by rw [wp_ob]; exact and_iff_r (so_4 h)
theorem wg_4 {k : Nat} {K : Int32 → Option (β × Hp)} (h : Sh σ) : wp (gI 1 k σ (some 4) K) P ↔ wp (K (hi σ 4 k)) P := wo_4 h
theorem wq_4 {k : Nat} {K : Option Nat → Option (β × Hp)} (h : Sh σ) : wp (gR 1 k σ (some 4) K) P ↔ wp (K (hr σ 4 k)) P := wo_4 h
theorem wi_4 {k : Nat} {v : Int32} {K : Hp → Option (β × Hp)} (h : Sh σ) : wp (pI 0 1 k σ (some 4) v K) P ↔ wp (K (wI σ 4 k v)) P := wo_4 h
theorem wu_4 {k : Nat} {v : Option Nat} {K : Hp → Option (β × Hp)} (h : Sh σ) : wp (pR 1 k σ (some 4) v K) P ↔ wp (K (wR σ 4 k v)) P := wo_4 h
theorem wl_5 {i : Nat} {K : Int32 → Option (β × Hp)} (h : Sh σ) (q : i < 8) : wp (lI 100 σ (some 5) (nI i) K) P ↔ wp (K (hi σ 5 i)) P := by rw [wp_lI, sl_5 h, inb_nI (by omega), ix_nI (by omega)]; exact and_iff_r ⟨so_5 h, q⟩
theorem ws_5 {i : Nat} {v : Int32} {K : Hp → Option (β × Hp)} (h : Sh σ) (q : i < 8) : wp (sI σ (some 5) (nI i) v K) P ↔ wp (K (wI σ 5 i v)) P := by rw [wp_sI, sl_5 h, inb_nI (by omega), ix_nI (by omega)]; exact and_iff_r ⟨so_5 h, q⟩
theorem wl_6 {i : Nat} {K : Int32 → Option (β × Hp)} (h : Sh σ) (q : i < 8) : wp (lI 100 σ (some 6) (nI i) K) P ↔ wp (K (hi σ 6 i)) P := by rw [wp_lI, sl_6 h, inb_nI (by omega), ix_nI (by omega)]; exact and_iff_r ⟨so_6 h, q⟩
theorem ws_6 {i : Nat} {v : Int32} {K : Hp → Option (β × Hp)} (h : Sh σ) (q : i < 8) : wp (sI σ (some 6) (nI i) v K) P ↔ wp (K (wI σ 6 i v)) P := by rw [wp_sI, sl_6 h, inb_nI (by omega), ix_nI (by omega)]; exact and_iff_r ⟨so_6 h, q⟩
theorem wl_7 {i : Nat} {K : Int32 → Option (β × Hp)} (h : Sh σ) (q : i < 8) : wp (lI 100 σ (some 7) (nI i) K) P ↔ wp (K (hi σ 7 i)) P := by rw [wp_lI, sl_7 h, inb_nI (by omega), ix_nI (by omega)]; exact and_iff_r ⟨so_7 h, q⟩
theorem ws_7 {i : Nat} {v : Int32} {K : Hp → Option (β × Hp)} (h : Sh σ) (q : i < 8) : wp (sI σ (some 7) (nI i) v K) P ↔ wp (K (wI σ 7 i v)) P := by rw [wp_sI, sl_7 h, inb_nI (by omega), ix_nI (by omega)]; exact and_iff_r ⟨so_7 h, q⟩
theorem wl_8 {i : Nat} {K : Int32 → Option (β × Hp)} (h : Sh σ) (q : i < 8) : wp (lI 100 σ (some 8) (nI i) K) P ↔ wp (K (hi σ 8 i)) P := by rw [wp_lI, sl_8 h, inb_nI (by omega), ix_nI (by omega)]; exact and_iff_r ⟨so_8 h, q⟩
theorem ws_8 {i : Nat} {v : Int32} {K : Hp → Option (β × Hp)} (h : Sh σ) (q : i < 8) : wp (sI σ (some 8) (nI i) v K) P ↔ wp (K (wI σ 8 i v)) P := by rw [wp_sI, sl_8 h, inb_nI (by omega), ix_nI (by omega)]; exact and_iff_r ⟨so_8 h, q⟩
theorem wl_9 {i : Nat} {K : Int32 → Option (β × Hp)} (h : Sh σ) (q : i < 8) : wp (lI 100 σ (some 9) (nI i) K) P ↔ wp (K (hi σ 9 i)) P := by rw [wp_lI, sl_9 h, inb_nI (by omega), ix_nI (by omega)]; exact and_iff_r ⟨so_9 h, q⟩
theorem ws_9 {i : Nat} {v : Int32} {K : Hp → Option (β × Hp)} (h : Sh σ) (q : i < 8) : wp (sI σ (some 9) (nI i) v K) P ↔ wp (K (wI σ 9 i v)) P := by rw [wp_sI, sl_9 h, inb_nI (by omega), ix_nI (by omega)]; exact and_iff_r ⟨so_9 h, q⟩
theorem wl_10 {i : Nat} {K : Int32 → Option (β × Hp)} (h : Sh σ) (q : i < 80) : wp (lI 100 σ (some 10) (nI i) K) P ↔ wp (K (hi σ 10 i)) P := by rw [wp_lI, sl_10 h, inb_nI (by omega), ix_nI (by omega)]; exact and_iff_r ⟨so_10 h, q⟩
theorem ws_10 {i : Nat} {v : Int32} {K : Hp → Option (β × Hp)} (h : Sh σ) (q : i < 80) : wp (sI σ (some 10) (nI i) v K) P ↔ wp (K (wI σ 10 i v)) P := by rw [wp_sI, sl_10 h, inb_nI (by omega), ix_nI (by omega)]; exact and_iff_r ⟨so_10 h, q⟩
theorem wl_11 {i : Nat} {K : Int32 → Option (β × Hp)} (h : Sh σ) (q : i < 8) : wp (lI 100 σ (some 11) (nI i) K) P ↔ wp (K (hi σ 11 i)) P := by rw [wp_lI, sl_11 h, inb_nI (by omega), ix_nI (by omega)]; exact and_iff_r ⟨so_11 h, q⟩
theorem ws_11 {i : Nat} {v : Int32} {K : Hp → Option (β × Hp)} (h : Sh σ) (q : i < 8) : wp (sI σ (some 11) (nI i) v K) P ↔ wp (K (wI σ 11 i v)) P := by rw [wp_sI, sl_11 h, inb_nI (by omega), ix_nI (by omega)]; exact and_iff_r ⟨so_11 h, q⟩
theorem wl_12 {i : Nat} {K : Int32 → Option (β × Hp)} (h : Sh σ) (q : i < 8) : wp (lI 100 σ (some 12) (nI i) K) P ↔ wp (K (hi σ 12 i)) P := by rw [wp_lI, sl_12 h, inb_nI (by omega), ix_nI (by omega)]; exact and_iff_r ⟨so_12 h, q⟩
theorem ws_12 {i : Nat} {v : Int32} {K : Hp → Option (β × Hp)} (h : Sh σ) (q : i < 8) : wp (sI σ (some 12) (nI i) v K) P ↔ wp (K (wI σ 12 i v)) P := by rw [wp_sI, sl_12 h, inb_nI (by omega), ix_nI (by omega)]; exact and_iff_r ⟨so_12 h, q⟩
theorem wl_13 {i : Nat} {K : Int32 → Option (β × Hp)} (h : Sh σ) (q : i < 8) : wp (lI 100 σ (some 13) (nI i) K) P ↔ wp (K (hi σ 13 i)) P := by rw [wp_lI, sl_13 h, inb_nI (by omega), ix_nI (by omega)]; exact and_iff_r ⟨so_13 h, q⟩
theorem ws_13 {i : Nat} {v : Int32} {K : Hp → Option (β × Hp)} (h : Sh σ) (q : i < 8) : wp (sI σ (some 13) (nI i) v K) P ↔ wp (K (wI σ 13 i v)) P := by rw [wp_sI, sl_13 h, inb_nI (by omega), ix_nI (by omega)]; exact and_iff_r ⟨so_13 h, q⟩
theorem wl_14 {i : Nat} {K : Option Nat → Option (β × Hp)} (h : Sh σ) (q : i < 12) : wp (lR σ (some 14) (nI i) K) P ↔ wp (K (hr σ 14 i)) P := by rw [wp_lR, sl_14 h, inb_nI (by omega), ix_nI (by omega)]; exact and_iff_r ⟨so_14 h, q⟩
theorem wo_15 {K : Nat → Option (β × Hp)} (h : Sh σ) : wp (ob 1 σ (some 15) K) P ↔ wp (K 15) P := by rw [wp_ob]; exact and_iff_r (so_15 h)
theorem wg_15 {k : Nat} {K : Int32 → Option (β × Hp)} (h : Sh σ) : wp (gI 1 k σ (some 15) K) P ↔ wp (K (hi σ 15 k)) P := wo_15 h
theorem wq_15 {k : Nat} {K : Option Nat → Option (β × Hp)} (h : Sh σ) : wp (gR 1 k σ (some 15) K) P ↔ wp (K (hr σ 15 k)) P := wo_15 h
theorem wi_15 {k : Nat} {v : Int32} {K : Hp → Option (β × Hp)} (h : Sh σ) : wp (pI 0 1 k σ (some 15) v K) P ↔ wp (K (wI σ 15 k v)) P := wo_15 h
theorem wu_15 {k : Nat} {v : Option Nat} {K : Hp → Option (β × Hp)} (h : Sh σ) : wp (pR 1 k σ (some 15) v K) P ↔ wp (K (wR σ 15 k v)) P := wo_15 h
theorem wl_16 {i : Nat} {K : Int32 → Option (β × Hp)} (h : Sh σ) (q : i < 8) : wp (lI 100 σ (some 16) (nI i) K) P ↔ wp (K (hi σ 16 i)) P := by rw [wp_lI, sl_16 h, inb_nI (by omega), ix_nI (by omega)]; exact and_iff_r ⟨so_16 h, q⟩
theorem ws_16 {i : Nat} {v : Int32} {K : Hp → Option (β × Hp)} (h : Sh σ) (q : i < 8) : wp (sI σ (some 16) (nI i) v K) P ↔ wp (K (wI σ 16 i v)) P := by rw [wp_sI, sl_16 h, inb_nI (by omega), ix_nI (by omega)]; exact and_iff_r ⟨so_16 h, q⟩
theorem wl_17 {i : Nat} {K : Int32 → Option (β × Hp)} (h : Sh σ) (q : i < 8) : wp (lI 100 σ (some 17) (nI i) K) P ↔ wp (K (hi σ 17 i)) P := by rw [wp_lI, sl_17 h, inb_nI (by omega), ix_nI (by omega)]; exact and_iff_r ⟨so_17 h, q⟩
theorem ws_17 {i : Nat} {v : Int32} {K : Hp → Option (β × Hp)} (h : Sh σ) (q : i < 8) : wp (sI σ (some 17) (nI i) v K) P ↔ wp (K (wI σ 17 i v)) P := by rw [wp_sI, sl_17 h, inb_nI (by omega), ix_nI (by omega)]; exact and_iff_r ⟨so_17 h, q⟩
theorem wl_18 {i : Nat} {K : Int32 → Option (β × Hp)} (h : Sh σ) (q : i < 8) : wp (lI 100 σ (some 18) (nI i) K) P ↔ wp (K (hi σ 18 i)) P := by rw [wp_lI, sl_18 h, inb_nI (by omega), ix_nI (by omega)]; exact and_iff_r ⟨so_18 h, q⟩
theorem ws_18 {i : Nat} {v : Int32} {K : Hp → Option (β × Hp)} (h : Sh σ) (q : i < 8) : wp (sI σ (some 18) (nI i) v K) P ↔ wp (K (wI σ 18 i v)) P := by rw [wp_sI, sl_18 h, inb_nI (by omega), ix_nI (by omega)]; exact and_iff_r ⟨so_18 h, q⟩
theorem wl_19 {i : Nat} {K : Int32 → Option (β × Hp)} (h : Sh σ) (q : i < 8) : wp (lI 100 σ (some 19) (nI i) K) P ↔ wp (K (hi σ 19 i)) P := by rw [wp_lI, sl_19 h, inb_nI (by omega), ix_nI (by omega)]; exact and_iff_r ⟨so_19 h, q⟩
theorem ws_19 {i : Nat} {v : Int32} {K : Hp → Option (β × Hp)} (h : Sh σ) (q : i < 8) : wp (sI σ (some 19) (nI i) v K) P ↔ wp (K (wI σ 19 i v)) P := by rw [wp_sI, sl_19 h, inb_nI (by omega), ix_nI (by omega)]; exact and_iff_r ⟨so_19 h, q⟩
theorem wl_20 {i : Nat} {K : Int32 → Option (β × Hp)} (h : Sh σ) (q : i < 8) : wp (lI 100 σ (some 20) (nI i) K) P ↔ wp (K (hi σ 20 i)) P := by rw [wp_lI, sl_20 h, inb_nI (by omega), ix_nI (by omega)]; exact and_iff_r ⟨so_20 h, q⟩
theorem ws_20 {i : Nat} {v : Int32} {K : Hp → Option (β × Hp)} (h : Sh σ) (q : i < 8) : wp (sI σ (some 20) (nI i) v K) P ↔ wp (K (wI σ 20 i v)) P := by rw [wp_sI, sl_20 h, inb_nI (by omega), ix_nI (by omega)]; exact and_iff_r ⟨so_20 h, q⟩
theorem wl_21 {i : Nat} {K : Int32 → Option (β × Hp)} (h : Sh σ) (q : i < 60) : wp (lI 100 σ (some 21) (nI i) K) P ↔ wp (K (hi σ 21 i)) P := by rw [wp_lI, sl_21 h, inb_nI (by omega), ix_nI (by omega)]; exact and_iff_r ⟨so_21 h, q⟩
theorem ws_21 {i : Nat} {v : Int32} {K : Hp → Option (β × Hp)} (h : Sh σ) (q : i < 60) : wp (sI σ (some 21) (nI i) v K) P ↔ wp (K (wI σ 21 i v)) P := by rw [wp_sI, sl_21 h, inb_nI (by omega), ix_nI (by omega)]; exact and_iff_r ⟨so_21 h, q⟩
theorem wl_22 {i : Nat} {K : Int32 → Option (β × Hp)} (h : Sh σ) (q : i < 60) : wp (lI 100 σ (some 22) (nI i) K) P ↔ wp (K (hi σ 22 i)) P := by rw [wp_lI, sl_22 h, inb_nI (by omega), ix_nI (by omega)]; exact and_iff_r ⟨so_22 h, q⟩
theorem ws_22 {i : Nat} {v : Int32} {K : Hp → Option (β × Hp)} (h : Sh σ) (q : i < 60) : wp (sI σ (some 22) (nI i) v K) P ↔ wp (K (wI σ 22 i v)) P := by rw [wp_sI, sl_22 h, inb_nI (by omega), ix_nI (by omega)]; exact and_iff_r ⟨so_22 h, q⟩
theorem wl_23 {i : Nat} {K : Int32 → Option (β × Hp)} (h : Sh σ) (q : i < 60) : wp (lI 100 σ (some 23) (nI i) K) P ↔ wp (K (hi σ 23 i)) P := by rw [wp_lI, sl_23 h, inb_nI (by omega), ix_nI (by omega)]; exact and_iff_r ⟨so_23 h, q⟩
theorem ws_23 {i : Nat} {v : Int32} {K : Hp → Option (β × Hp)} (h : Sh σ) (q : i < 60) : wp (sI σ (some 23) (nI i) v K) P ↔ wp (K (wI σ 23 i v)) P := by rw [wp_sI, sl_23 h, inb_nI (by omega), ix_nI (by omega)]; exact and_iff_r ⟨so_23 h, q⟩
theorem wl_24 {i : Nat} {K : Int32 → Option (β × Hp)} (h : Sh σ) (q : i < 8) : wp (lI 100 σ (some 24) (nI i) K) P ↔ wp (K (hi σ 24 i)) P := by rw [wp_lI, sl_24 h, inb_nI (by omega), ix_nI (by omega)]; exact and_iff_r ⟨so_24 h, q⟩
theorem ws_24 {i : Nat} {v : Int32} {K : Hp → Option (β × Hp)} (h : Sh σ) (q : i < 8) : wp (sI σ (some 24) (nI i) v K) P ↔ wp (K (wI σ 24 i v)) P := by rw [wp_sI, sl_24 h, inb_nI (by omega), ix_nI (by omega)]; exact and_iff_r ⟨so_24 h, q⟩
theorem wl_25 {i : Nat} {K : Int32 → Option (β × Hp)} (h : Sh σ) (q : i < 8) : wp (lI 100 σ (some 25) (nI i) K) P ↔ wp (K (hi σ 25 i)) P := by rw [wp_lI, sl_25 h, inb_nI (by omega), ix_nI (by omega)]; exact and_iff_r ⟨so_25 h, q⟩
theorem ws_25 {i : Nat} {v : Int32} {K : Hp → Option (β × Hp)} (h : Sh σ) (q : i < 8) : wp (sI σ (some 25) (nI i) v K) P ↔ wp (K (wI σ 25 i v)) P := by rw [wp_sI, sl_25 h, inb_nI (by omega), ix_nI (by omega)]; exact and_iff_r ⟨so_25 h, q⟩
theorem wl_26 {i : Nat} {K : Int32 → Option (β × Hp)} (h : Sh σ) (q : i < 64) : wp (lI 100 σ (some 26) (nI i) K) P ↔ wp (K (hi σ 26 i)) P := by rw [wp_lI, sl_26 h, inb_nI (by omega), ix_nI (by omega)]; exact and_iff_r ⟨so_26 h, q⟩
theorem ws_26 {i : Nat} {v : Int32} {K : Hp → Option (β × Hp)} (h : Sh σ) (q : i < 64) : wp (sI σ (some 26) (nI i) v K) P ↔ wp (K (wI σ 26 i v)) P := by rw [wp_sI, sl_26 h, inb_nI (by omega), ix_nI (by omega)]; exact and_iff_r ⟨so_26 h, q⟩
theorem wl_27 {i : Nat} {K : Int32 → Option (β × Hp)} (h : Sh σ) (q : i < 256) : wp (lI 100 σ (some 27) (nI i) K) P ↔ wp (K (hi σ 27 i)) P := by rw [wp_lI, sl_27 h, inb_nI (by omega), ix_nI (by omega)]; exact and_iff_r ⟨so_27 h, q⟩
theorem ws_27 {i : Nat} {v : Int32} {K : Hp → Option (β × Hp)} (h : Sh σ) (q : i < 256) : wp (sI σ (some 27) (nI i) v K) P ↔ wp (K (wI σ 27 i v)) P := by rw [wp_sI, sl_27 h, inb_nI (by omega), ix_nI (by omega)]; exact and_iff_r ⟨so_27 h, q⟩
theorem wl_28 {i : Nat} {K : Int32 → Option (β × Hp)} (h : Sh σ) (q : i < 256) : wp (lI 100 σ (some 28) (nI i) K) P ↔ wp (K (hi σ 28 i)) P := by rw [wp_lI, sl_28 h, inb_nI (by omega), ix_nI (by omega)]; exact and_iff_r ⟨so_28 h, q⟩
theorem ws_28 {i : Nat} {v : Int32} {K : Hp → Option (β × Hp)} (h : Sh σ) (q : i < 256) : wp (sI σ (some 28) (nI i) v K) P ↔ wp (K (wI σ 28 i v)) P := by rw [wp_sI, sl_28 h, inb_nI (by omega), ix_nI (by omega)]; exact and_iff_r ⟨so_28 h, q⟩
theorem wl_29 {i : Nat} {K : Int32 → Option (β × Hp)} (h : Sh σ) (q : i < 8) : wp (lI 100 σ (some 29) (nI i) K) P ↔ wp (K (hi σ 29 i)) P := by rw [wp_lI, sl_29 h, inb_nI (by omega), ix_nI (by omega)]; exact and_iff_r ⟨so_29 h, q⟩
theorem ws_29 {i : Nat} {v : Int32} {K : Hp → Option (β × Hp)} (h : Sh σ) (q : i < 8) : wp (sI σ (some 29) (nI i) v K) P ↔ wp (K (wI σ 29 i v)) P := by rw [wp_sI, sl_29 h, inb_nI (by omega), ix_nI (by omega)]; exact and_iff_r ⟨so_29 h, q⟩
theorem wl_30 {i : Nat} {K : Int64 → Option (β × Hp)} (h : Sh σ) (q : i < 256) : wp (lL σ (some 30) (nI i) K) P ↔ wp (K (hl σ 30 i)) P := by rw [wp_lL, sl_30 h, inb_nI (by omega), ix_nI (by omega)]; exact and_iff_r ⟨so_30 h, q⟩
theorem ws_30 {i : Nat} {v : Int64} {K : Hp → Option (β × Hp)} (h : Sh σ) (q : i < 256) : wp (sL σ (some 30) (nI i) v K) P ↔ wp (K (wL σ 30 i v)) P := by rw [wp_sL, sl_30 h, inb_nI (by omega), ix_nI (by omega)]; exact and_iff_r ⟨so_30 h, q⟩
theorem wl_31 {i : Nat} {K : Int32 → Option (β × Hp)} (h : Sh σ) (q : i < 12) : wp (lI 100 σ (some 31) (nI i) K) P ↔ wp (K (hi σ 31 i)) P := by rw [wp_lI, sl_31 h, inb_nI (by omega), ix_nI (by omega)]; exact and_iff_r ⟨so_31 h, q⟩
theorem ws_31 {i : Nat} {v : Int32} {K : Hp → Option (β × Hp)} (h : Sh σ) (q : i < 12) : wp (sI σ (some 31) (nI i) v K) P ↔ wp (K (wI σ 31 i v)) P := by rw [wp_sI, sl_31 h, inb_nI (by omega), ix_nI (by omega)]; exact and_iff_r ⟨so_31 h, q⟩
theorem wl_32 {i : Nat} {K : Int32 → Option (β × Hp)} (h : Sh σ) (q : i < 12) : wp (lI 100 σ (some 32) (nI i) K) P ↔ wp (K (hi σ 32 i)) P := by rw [wp_lI, sl_32 h, inb_nI (by omega), ix_nI (by omega)]; exact and_iff_r ⟨so_32 h, q⟩
theorem ws_32 {i : Nat} {v : Int32} {K : Hp → Option (β × Hp)} (h : Sh σ) (q : i < 12) : wp (sI σ (some 32) (nI i) v K) P ↔ wp (K (wI σ 32 i v)) P := by rw [wp_sI, sl_32 h, inb_nI (by omega), ix_nI (by omega)]; exact and_iff_r ⟨so_32 h, q⟩
theorem wl_33 {i : Nat} {K : Int32 → Option (β × Hp)} (h : Sh σ) (q : i < 12) : wp (lI 100 σ (some 33) (nI i) K) P ↔ wp (K (hi σ 33 i)) P := by rw [wp_lI, sl_33 h, inb_nI (by omega), ix_nI (by omega)]; exact and_iff_r ⟨so_33 h, q⟩
theorem ws_33 {i : Nat} {v : Int32} {K : Hp → Option (β × Hp)} (h : Sh σ) (q : i < 12) : wp (sI σ (some 33) (nI i) v K) P ↔ wp (K (wI σ 33 i v)) P := by rw [wp_sI, sl_33 h, inb_nI (by omega), ix_nI (by omega)]; exact and_iff_r ⟨so_33 h, q⟩
theorem wl_34 {i : Nat} {K : Option Nat → Option (β × Hp)} (h : Sh σ) (q : i < 2) : wp (lR σ (some 34) (nI i) K) P ↔ wp (K (hr σ 34 i)) P := by rw [wp_lR, sl_34 h, inb_nI (by omega), ix_nI (by omega)]; exact and_iff_r ⟨so_34 h, q⟩
theorem wl_35 {i : Nat} {K : Int32 → Option (β × Hp)} (h : Sh σ) (q : i < 2) : wp (lI 100 σ (some 35) (nI i) K) P ↔ wp (K (hi σ 35 i)) P := by rw [wp_lI, sl_35 h, inb_nI (by omega), ix_nI (by omega)]; exact and_iff_r ⟨so_35 h, q⟩
theorem ws_35 {i : Nat} {v : Int32} {K : Hp → Option (β × Hp)} (h : Sh σ) (q : i < 2) : wp (sI σ (some 35) (nI i) v K) P ↔ wp (K (wI σ 35 i v)) P := by rw [wp_sI, sl_35 h, inb_nI (by omega), ix_nI (by omega)]; exact and_iff_r ⟨so_35 h, q⟩
theorem wl_36 {i : Nat} {K : Int64 → Option (β × Hp)} (h : Sh σ) (q : i < 16) : wp (lL σ (some 36) (nI i) K) P ↔ wp (K (hl σ 36 i)) P := by rw [wp_lL, sl_36 h, inb_nI (by omega), ix_nI (by omega)]; exact and_iff_r ⟨so_36 h, q⟩
theorem ws_36 {i : Nat} {v : Int64} {K : Hp → Option (β × Hp)} (h : Sh σ) (q : i < 16) : wp (sL σ (some 36) (nI i) v K) P ↔ wp (K (wL σ 36 i v)) P := by rw [wp_sL, sl_36 h, inb_nI (by omega), ix_nI (by omega)]; exact and_iff_r ⟨so_36 h, q⟩
theorem wo_37 {K : Nat → Option (β × Hp)} (h : Sh σ) : wp (ob 2 σ (some 37) K) P ↔ wp (K 37) P := by rw [wp_ob]; exact and_iff_r (so_37 h)
theorem wg_37 {k : Nat} {K : Int32 → Option (β × Hp)} (h : Sh σ) : wp (gI 2 k σ (some 37) K) P ↔ wp (K (hi σ 37 k)) P := wo_37 h
theorem wq_37 {k : Nat} {K : Option Nat → Option (β × Hp)} (h : Sh σ) : wp (gR 2 k σ (some 37) K) P ↔ wp (K (hr σ 37 k)) P := wo_37 h
theorem wi_37 {k : Nat} {v : Int32} {K : Hp → Option (β × Hp)} (h : Sh σ) : wp (pI 0 2 k σ (some 37) v K) P ↔ wp (K (wI σ 37 k v)) P := wo_37 h
theorem wu_37 {k : Nat} {v : Option Nat} {K : Hp → Option (β × Hp)} (h : Sh σ) : wp (pR 2 k σ (some 37) v K) P ↔ wp (K (wR σ 37 k v)) P := wo_37 h
theorem wl_38 {i : Nat} {K : Int32 → Option (β × Hp)} (h : Sh σ) (q : i < 27) : wp (lI 100 σ (some 38) (nI i) K) P ↔ wp (K (hi σ 38 i)) P := by rw [wp_lI, sl_38 h, inb_nI (by omega), ix_nI (by omega)]; exact and_iff_r ⟨so_38 h, q⟩
theorem ws_38 {i : Nat} {v : Int32} {K : Hp → Option (β × Hp)} (h : Sh σ) (q : i < 27) : wp (sI σ (some 38) (nI i) v K) P ↔ wp (K (wI σ 38 i v)) P := by rw [wp_sI, sl_38 h, inb_nI (by omega), ix_nI (by omega)]; exact and_iff_r ⟨so_38 h, q⟩
theorem wl_39 {i : Nat} {K : Int32 → Option (β × Hp)} (h : Sh σ) (q : i < 8) : wp (lI 100 σ (some 39) (nI i) K) P ↔ wp (K (hi σ 39 i)) P := by rw [wp_lI, sl_39 h, inb_nI (by omega), ix_nI (by omega)]; exact and_iff_r ⟨so_39 h, q⟩
theorem ws_39 {i : Nat} {v : Int32} {K : Hp → Option (β × Hp)} (h : Sh σ) (q : i < 8) : wp (sI σ (some 39) (nI i) v K) P ↔ wp (K (wI σ 39 i v)) P := by rw [wp_sI, sl_39 h, inb_nI (by omega), ix_nI (by omega)]; exact and_iff_r ⟨so_39 h, q⟩
theorem wl_40 {i : Nat} {K : Int32 → Option (β × Hp)} (h : Sh σ) (q : i < 8) : wp (lI 100 σ (some 40) (nI i) K) P ↔ wp (K (hi σ 40 i)) P := by rw [wp_lI, sl_40 h, inb_nI (by omega), ix_nI (by omega)]; exact and_iff_r ⟨so_40 h, q⟩
theorem ws_40 {i : Nat} {v : Int32} {K : Hp → Option (β × Hp)} (h : Sh σ) (q : i < 8) : wp (sI σ (some 40) (nI i) v K) P ↔ wp (K (wI σ 40 i v)) P := by rw [wp_sI, sl_40 h, inb_nI (by omega), ix_nI (by omega)]; exact and_iff_r ⟨so_40 h, q⟩
theorem wl_41 {i : Nat} {K : Int32 → Option (β × Hp)} (h : Sh σ) (q : i < 8) : wp (lI 100 σ (some 41) (nI i) K) P ↔ wp (K (hi σ 41 i)) P := by rw [wp_lI, sl_41 h, inb_nI (by omega), ix_nI (by omega)]; exact and_iff_r ⟨so_41 h, q⟩
theorem ws_41 {i : Nat} {v : Int32} {K : Hp → Option (β × Hp)} (h : Sh σ) (q : i < 8) : wp (sI σ (some 41) (nI i) v K) P ↔ wp (K (wI σ 41 i v)) P := by rw [wp_sI, sl_41 h, inb_nI (by omega), ix_nI (by omega)]; exact and_iff_r ⟨so_41 h, q⟩
theorem wl_42 {i : Nat} {K : Int32 → Option (β × Hp)} (h : Sh σ) (q : i < 80) : wp (lI 101 σ (some 42) (nI i) K) P ↔ wp (K (hi σ 42 i)) P := by rw [wp_lI, sl_42 h, inb_nI (by omega), ix_nI (by omega)]; exact and_iff_r ⟨so_42 h, q⟩
theorem ws_42 {i : Nat} {v : Int32} {K : Hp → Option (β × Hp)} (h : Sh σ) (q : i < 80) : wp (sB σ (some 42) (nI i) v K) P ↔ wp (K (wI σ 42 i (vp_nar .byte v))) P := by rw [wp_sB, sl_42 h, inb_nI (by omega), ix_nI (by omega)]; exact and_iff_r ⟨so_42 h, q⟩
theorem wl_43 {i : Nat} {K : Int64 → Option (β × Hp)} (h : Sh σ) (q : i < 16) : wp (lL σ (some 43) (nI i) K) P ↔ wp (K (hl σ 43 i)) P := by rw [wp_lL, sl_43 h, inb_nI (by omega), ix_nI (by omega)]; exact and_iff_r ⟨so_43 h, q⟩
theorem ws_43 {i : Nat} {v : Int64} {K : Hp → Option (β × Hp)} (h : Sh σ) (q : i < 16) : wp (sL σ (some 43) (nI i) v K) P ↔ wp (K (wL σ 43 i v)) P := by rw [wp_sL, sl_43 h, inb_nI (by omega), ix_nI (by omega)]; exact and_iff_r ⟨so_43 h, q⟩
theorem wl_44 {i : Nat} {K : Int32 → Option (β × Hp)} (h : Sh σ) (q : i < 24) : wp (lI 100 σ (some 44) (nI i) K) P ↔ wp (K (hi σ 44 i)) P := by rw [wp_lI, sl_44 h, inb_nI (by omega), ix_nI (by omega)]; exact and_iff_r ⟨so_44 h, q⟩
theorem ws_44 {i : Nat} {v : Int32} {K : Hp → Option (β × Hp)} (h : Sh σ) (q : i < 24) : wp (sI σ (some 44) (nI i) v K) P ↔ wp (K (wI σ 44 i v)) P := by rw [wp_sI, sl_44 h, inb_nI (by omega), ix_nI (by omega)]; exact and_iff_r ⟨so_44 h, q⟩
theorem wl_45 {i : Nat} {K : Int32 → Option (β × Hp)} (h : Sh σ) (q : i < 40) : wp (lI 101 σ (some 45) (nI i) K) P ↔ wp (K (hi σ 45 i)) P := by rw [wp_lI, sl_45 h, inb_nI (by omega), ix_nI (by omega)]; exact and_iff_r ⟨so_45 h, q⟩
theorem ws_45 {i : Nat} {v : Int32} {K : Hp → Option (β × Hp)} (h : Sh σ) (q : i < 40) : wp (sB σ (some 45) (nI i) v K) P ↔ wp (K (wI σ 45 i (vp_nar .byte v))) P := by rw [wp_sB, sl_45 h, inb_nI (by omega), ix_nI (by omega)]; exact and_iff_r ⟨so_45 h, q⟩
theorem wl_46 {i : Nat} {K : Int32 → Option (β × Hp)} (h : Sh σ) (q : i < 40) : wp (lI 101 σ (some 46) (nI i) K) P ↔ wp (K (hi σ 46 i)) P := by rw [wp_lI, sl_46 h, inb_nI (by omega), ix_nI (by omega)]; exact and_iff_r ⟨so_46 h, q⟩
theorem ws_46 {i : Nat} {v : Int32} {K : Hp → Option (β × Hp)} (h : Sh σ) (q : i < 40) : wp (sB σ (some 46) (nI i) v K) P ↔ wp (K (wI σ 46 i (vp_nar .byte v))) P := by rw [wp_sB, sl_46 h, inb_nI (by omega), ix_nI (by omega)]; exact and_iff_r ⟨so_46 h, q⟩
theorem wl_47 {i : Nat} {K : Int32 → Option (β × Hp)} (h : Sh σ) (q : i < 7) : wp (lI 100 σ (some 47) (nI i) K) P ↔ wp (K (hi σ 47 i)) P := by rw [wp_lI, sl_47 h, inb_nI (by omega), ix_nI (by omega)]; exact and_iff_r ⟨so_47 h, q⟩
theorem ws_47 {i : Nat} {v : Int32} {K : Hp → Option (β × Hp)} (h : Sh σ) (q : i < 7) : wp (sI σ (some 47) (nI i) v K) P ↔ wp (K (wI σ 47 i v)) P := by rw [wp_sI, sl_47 h, inb_nI (by omega), ix_nI (by omega)]; exact and_iff_r ⟨so_47 h, q⟩
theorem wl_48 {i : Nat} {K : Int32 → Option (β × Hp)} (h : Sh σ) (q : i < 324) : wp (lI 100 σ (some 48) (nI i) K) P ↔ wp (K (hi σ 48 i)) P := by rw [wp_lI, sl_48 h, inb_nI (by omega), ix_nI (by omega)]; exact and_iff_r ⟨so_48 h, q⟩
theorem ws_48 {i : Nat} {v : Int32} {K : Hp → Option (β × Hp)} (h : Sh σ) (q : i < 324) : wp (sI σ (some 48) (nI i) v K) P ↔ wp (K (wI σ 48 i v)) P := by rw [wp_sI, sl_48 h, inb_nI (by omega), ix_nI (by omega)]; exact and_iff_r ⟨so_48 h, q⟩
theorem wl_49 {i : Nat} {K : Int32 → Option (β × Hp)} (h : Sh σ) (q : i < 27) : wp (lI 100 σ (some 49) (nI i) K) P ↔ wp (K (hi σ 49 i)) P := by rw [wp_lI, sl_49 h, inb_nI (by omega), ix_nI (by omega)]; exact and_iff_r ⟨so_49 h, q⟩
theorem ws_49 {i : Nat} {v : Int32} {K : Hp → Option (β × Hp)} (h : Sh σ) (q : i < 27) : wp (sI σ (some 49) (nI i) v K) P ↔ wp (K (wI σ 49 i v)) P := by rw [wp_sI, sl_49 h, inb_nI (by omega), ix_nI (by omega)]; exact and_iff_r ⟨so_49 h, q⟩
theorem wl_50 {i : Nat} {K : Int32 → Option (β × Hp)} (h : Sh σ) (q : i < 27) : wp (lI 100 σ (some 50) (nI i) K) P ↔ wp (K (hi σ 50 i)) P := by rw [wp_lI, sl_50 h, inb_nI (by omega), ix_nI (by omega)]; exact and_iff_r ⟨so_50 h, q⟩
theorem ws_50 {i : Nat} {v : Int32} {K : Hp → Option (β × Hp)} (h : Sh σ) (q : i < 27) : wp (sI σ (some 50) (nI i) v K) P ↔ wp (K (wI σ 50 i v)) P := by rw [wp_sI, sl_50 h, inb_nI (by omega), ix_nI (by omega)]; exact and_iff_r ⟨so_50 h, q⟩
theorem wl_51 {i : Nat} {K : Int32 → Option (β × Hp)} (h : Sh σ) (q : i < 8) : wp (lI 100 σ (some 51) (nI i) K) P ↔ wp (K (hi σ 51 i)) P := by rw [wp_lI, sl_51 h, inb_nI (by omega), ix_nI (by omega)]; exact and_iff_r ⟨so_51 h, q⟩
theorem ws_51 {i : Nat} {v : Int32} {K : Hp → Option (β × Hp)} (h : Sh σ) (q : i < 8) : wp (sI σ (some 51) (nI i) v K) P ↔ wp (K (wI σ 51 i v)) P := by rw [wp_sI, sl_51 h, inb_nI (by omega), ix_nI (by omega)]; exact and_iff_r ⟨so_51 h, q⟩
theorem wl_52 {i : Nat} {K : Int32 → Option (β × Hp)} (h : Sh σ) (q : i < 8) : wp (lI 100 σ (some 52) (nI i) K) P ↔ wp (K (hi σ 52 i)) P := by rw [wp_lI, sl_52 h, inb_nI (by omega), ix_nI (by omega)]; exact and_iff_r ⟨so_52 h, q⟩
theorem ws_52 {i : Nat} {v : Int32} {K : Hp → Option (β × Hp)} (h : Sh σ) (q : i < 8) : wp (sI σ (some 52) (nI i) v K) P ↔ wp (K (wI σ 52 i v)) P := by rw [wp_sI, sl_52 h, inb_nI (by omega), ix_nI (by omega)]; exact and_iff_r ⟨so_52 h, q⟩
theorem wl_53 {i : Nat} {K : Int32 → Option (β × Hp)} (h : Sh σ) (q : i < 240) : wp (lI 100 σ (some 53) (nI i) K) P ↔ wp (K (hi σ 53 i)) P := by rw [wp_lI, sl_53 h, inb_nI (by omega), ix_nI (by omega)]; exact and_iff_r ⟨so_53 h, q⟩
theorem ws_53 {i : Nat} {v : Int32} {K : Hp → Option (β × Hp)} (h : Sh σ) (q : i < 240) : wp (sI σ (some 53) (nI i) v K) P ↔ wp (K (wI σ 53 i v)) P := by rw [wp_sI, sl_53 h, inb_nI (by omega), ix_nI (by omega)]; exact and_iff_r ⟨so_53 h, q⟩
theorem wl_54 {i : Nat} {K : Int32 → Option (β × Hp)} (h : Sh σ) (q : i < 8) : wp (lI 100 σ (some 54) (nI i) K) P ↔ wp (K (hi σ 54 i)) P := by rw [wp_lI, sl_54 h, inb_nI (by omega), ix_nI (by omega)]; exact and_iff_r ⟨so_54 h, q⟩
theorem ws_54 {i : Nat} {v : Int32} {K : Hp → Option (β × Hp)} (h : Sh σ) (q : i < 8) : wp (sI σ (some 54) (nI i) v K) P ↔ wp (K (wI σ 54 i v)) P := by rw [wp_sI, sl_54 h, inb_nI (by omega), ix_nI (by omega)]; exact and_iff_r ⟨so_54 h, q⟩
theorem wl_55 {i : Nat} {K : Int32 → Option (β × Hp)} (h : Sh σ) (q : i < 8) : wp (lI 100 σ (some 55) (nI i) K) P ↔ wp (K (hi σ 55 i)) P := by rw [wp_lI, sl_55 h, inb_nI (by omega), ix_nI (by omega)]; exact and_iff_r ⟨so_55 h, q⟩
theorem ws_55 {i : Nat} {v : Int32} {K : Hp → Option (β × Hp)} (h : Sh σ) (q : i < 8) : wp (sI σ (some 55) (nI i) v K) P ↔ wp (K (wI σ 55 i v)) P := by rw [wp_sI, sl_55 h, inb_nI (by omega), ix_nI (by omega)]; exact and_iff_r ⟨so_55 h, q⟩
theorem wl_56 {i : Nat} {K : Int32 → Option (β × Hp)} (h : Sh σ) (q : i < 8) : wp (lI 100 σ (some 56) (nI i) K) P ↔ wp (K (hi σ 56 i)) P := by rw [wp_lI, sl_56 h, inb_nI (by omega), ix_nI (by omega)]; exact and_iff_r ⟨so_56 h, q⟩
theorem ws_56 {i : Nat} {v : Int32} {K : Hp → Option (β × Hp)} (h : Sh σ) (q : i < 8) : wp (sI σ (some 56) (nI i) v K) P ↔ wp (K (wI σ 56 i v)) P := by rw [wp_sI, sl_56 h, inb_nI (by omega), ix_nI (by omega)]; exact and_iff_r ⟨so_56 h, q⟩
theorem wl_57 {i : Nat} {K : Int32 → Option (β × Hp)} (h : Sh σ) (q : i < 8) : wp (lI 100 σ (some 57) (nI i) K) P ↔ wp (K (hi σ 57 i)) P := by rw [wp_lI, sl_57 h, inb_nI (by omega), ix_nI (by omega)]; exact and_iff_r ⟨so_57 h, q⟩
theorem ws_57 {i : Nat} {v : Int32} {K : Hp → Option (β × Hp)} (h : Sh σ) (q : i < 8) : wp (sI σ (some 57) (nI i) v K) P ↔ wp (K (wI σ 57 i v)) P := by rw [wp_sI, sl_57 h, inb_nI (by omega), ix_nI (by omega)]; exact and_iff_r ⟨so_57 h, q⟩
theorem wl_58 {i : Nat} {K : Int32 → Option (β × Hp)} (h : Sh σ) (q : i < 64) : wp (lI 100 σ (some 58) (nI i) K) P ↔ wp (K (hi σ 58 i)) P := by rw [wp_lI, sl_58 h, inb_nI (by omega), ix_nI (by omega)]; exact and_iff_r ⟨so_58 h, q⟩
theorem ws_58 {i : Nat} {v : Int32} {K : Hp → Option (β × Hp)} (h : Sh σ) (q : i < 64) : wp (sI σ (some 58) (nI i) v K) P ↔ wp (K (wI σ 58 i v)) P := by rw [wp_sI, sl_58 h, inb_nI (by omega), ix_nI (by omega)]; exact and_iff_r ⟨so_58 h, q⟩
theorem wl_59 {i : Nat} {K : Int32 → Option (β × Hp)} (h : Sh σ) (q : i < 2304) : wp (lI 100 σ (some 59) (nI i) K) P ↔ wp (K (hi σ 59 i)) P := by rw [wp_lI, sl_59 h, inb_nI (by omega), ix_nI (by omega)]; exact and_iff_r ⟨so_59 h, q⟩
theorem ws_59 {i : Nat} {v : Int32} {K : Hp → Option (β × Hp)} (h : Sh σ) (q : i < 2304) : wp (sI σ (some 59) (nI i) v K) P ↔ wp (K (wI σ 59 i v)) P := by rw [wp_sI, sl_59 h, inb_nI (by omega), ix_nI (by omega)]; exact and_iff_r ⟨so_59 h, q⟩
theorem wl_60 {i : Nat} {K : Int32 → Option (β × Hp)} (h : Sh σ) (q : i < 2304) : wp (lI 100 σ (some 60) (nI i) K) P ↔ wp (K (hi σ 60 i)) P := by rw [wp_lI, sl_60 h, inb_nI (by omega), ix_nI (by omega)]; exact and_iff_r ⟨so_60 h, q⟩
theorem ws_60 {i : Nat} {v : Int32} {K : Hp → Option (β × Hp)} (h : Sh σ) (q : i < 2304) : wp (sI σ (some 60) (nI i) v K) P ↔ wp (K (wI σ 60 i v)) P := by rw [wp_sI, sl_60 h, inb_nI (by omega), ix_nI (by omega)]; exact and_iff_r ⟨so_60 h, q⟩
theorem wl_61 {i : Nat} {K : Int32 → Option (β × Hp)} (h : Sh σ) (q : i < 8) : wp (lI 100 σ (some 61) (nI i) K) P ↔ wp (K (hi σ 61 i)) P := by rw [wp_lI, sl_61 h, inb_nI (by omega), ix_nI (by omega)]; exact and_iff_r ⟨so_61 h, q⟩
theorem ws_61 {i : Nat} {v : Int32} {K : Hp → Option (β × Hp)} (h : Sh σ) (q : i < 8) : wp (sI σ (some 61) (nI i) v K) P ↔ wp (K (wI σ 61 i v)) P := by rw [wp_sI, sl_61 h, inb_nI (by omega), ix_nI (by omega)]; exact and_iff_r ⟨so_61 h, q⟩
theorem wl_62 {i : Nat} {K : Int32 → Option (β × Hp)} (h : Sh σ) (q : i < 256) : wp (lI 102 σ (some 62) (nI i) K) P ↔ wp (K (hi σ 62 i)) P := by rw [wp_lI, sl_62 h, inb_nI (by omega), ix_nI (by omega)]; exact and_iff_r ⟨so_62 h, q⟩
theorem ws_62 {i : Nat} {v : Int32} {K : Hp → Option (β × Hp)} (h : Sh σ) (q : i < 256) : wp (sZ σ (some 62) (nI i) v K) P ↔ wp (K (wI σ 62 i (vp_nar .boolean v))) P := by rw [wp_sZ, sl_62 h, inb_nI (by omega), ix_nI (by omega)]; exact and_iff_r ⟨so_62 h, q⟩
theorem wl_63 {i : Nat} {K : Int32 → Option (β × Hp)} (h : Sh σ) (q : i < 12) : wp (lI 100 σ (some 63) (nI i) K) P ↔ wp (K (hi σ 63 i)) P := by rw [wp_lI, sl_63 h, inb_nI (by omega), ix_nI (by omega)]; exact and_iff_r ⟨so_63 h, q⟩
theorem ws_63 {i : Nat} {v : Int32} {K : Hp → Option (β × Hp)} (h : Sh σ) (q : i < 12) : wp (sI σ (some 63) (nI i) v K) P ↔ wp (K (wI σ 63 i v)) P := by rw [wp_sI, sl_63 h, inb_nI (by omega), ix_nI (by omega)]; exact and_iff_r ⟨so_63 h, q⟩
theorem wl_64 {i : Nat} {K : Int32 → Option (β × Hp)} (h : Sh σ) (q : i < 12) : wp (lI 100 σ (some 64) (nI i) K) P ↔ wp (K (hi σ 64 i)) P := by rw [wp_lI, sl_64 h, inb_nI (by omega), ix_nI (by omega)]; exact and_iff_r ⟨so_64 h, q⟩
theorem ws_64 {i : Nat} {v : Int32} {K : Hp → Option (β × Hp)} (h : Sh σ) (q : i < 12) : wp (sI σ (some 64) (nI i) v K) P ↔ wp (K (wI σ 64 i v)) P := by rw [wp_sI, sl_64 h, inb_nI (by omega), ix_nI (by omega)]; exact and_iff_r ⟨so_64 h, q⟩
theorem wl_65 {i : Nat} {K : Int32 → Option (β × Hp)} (h : Sh σ) (q : i < 54) : wp (lI 100 σ (some 65) (nI i) K) P ↔ wp (K (hi σ 65 i)) P := by rw [wp_lI, sl_65 h, inb_nI (by omega), ix_nI (by omega)]; exact and_iff_r ⟨so_65 h, q⟩
theorem ws_65 {i : Nat} {v : Int32} {K : Hp → Option (β × Hp)} (h : Sh σ) (q : i < 54) : wp (sI σ (some 65) (nI i) v K) P ↔ wp (K (wI σ 65 i v)) P := by rw [wp_sI, sl_65 h, inb_nI (by omega), ix_nI (by omega)]; exact and_iff_r ⟨so_65 h, q⟩
theorem wl_66 {i : Nat} {K : Int32 → Option (β × Hp)} (h : Sh σ) (q : i < 2) : wp (lI 102 σ (some 66) (nI i) K) P ↔ wp (K (hi σ 66 i)) P := by rw [wp_lI, sl_66 h, inb_nI (by omega), ix_nI (by omega)]; exact and_iff_r ⟨so_66 h, q⟩
theorem ws_66 {i : Nat} {v : Int32} {K : Hp → Option (β × Hp)} (h : Sh σ) (q : i < 2) : wp (sZ σ (some 66) (nI i) v K) P ↔ wp (K (wI σ 66 i (vp_nar .boolean v))) P := by rw [wp_sZ, sl_66 h, inb_nI (by omega), ix_nI (by omega)]; exact and_iff_r ⟨so_66 h, q⟩
theorem wl_67 {i : Nat} {K : Int32 → Option (β × Hp)} (h : Sh σ) (q : i < 2) : wp (lI 100 σ (some 67) (nI i) K) P ↔ wp (K (hi σ 67 i)) P := by rw [wp_lI, sl_67 h, inb_nI (by omega), ix_nI (by omega)]; exact and_iff_r ⟨so_67 h, q⟩
theorem ws_67 {i : Nat} {v : Int32} {K : Hp → Option (β × Hp)} (h : Sh σ) (q : i < 2) : wp (sI σ (some 67) (nI i) v K) P ↔ wp (K (wI σ 67 i v)) P := by rw [wp_sI, sl_67 h, inb_nI (by omega), ix_nI (by omega)]; exact and_iff_r ⟨so_67 h, q⟩
theorem wl_68 {i : Nat} {K : Int64 → Option (β × Hp)} (h : Sh σ) (q : i < 1) : wp (lL σ (some 68) (nI i) K) P ↔ wp (K (hl σ 68 i)) P := by rw [wp_lL, sl_68 h, inb_nI (by omega), ix_nI (by omega)]; exact and_iff_r ⟨so_68 h, q⟩
theorem ws_68 {i : Nat} {v : Int64} {K : Hp → Option (β × Hp)} (h : Sh σ) (q : i < 1) : wp (sL σ (some 68) (nI i) v K) P ↔ wp (K (wL σ 68 i v)) P := by rw [wp_sL, sl_68 h, inb_nI (by omega), ix_nI (by omega)]; exact and_iff_r ⟨so_68 h, q⟩
theorem w_jn {α : Type} {R : α → Hp → Option (β × Hp)} {B : (α → Hp → Option (β × Hp)) → Option (β × Hp)} : wp (jn R B) P ↔ wp (B R) P := Iff.rfl
theorem w_bc {x : Int32} {K : Int32 → Hp → Option (β × Hp)} : wp (bnd (f_J10_bitCount x σ) K) P ↔ wp (K (bcI x) σ) P := by rw [e_bc, e_bnd]
theorem w_nt {x : Int32} {K : Int32 → Hp → Option (β × Hp)} : wp (bnd (f_J10_numberOfTrailingZeros x σ) K) P ↔ wp (K (ntI x) σ) P := by rw [e_nt, e_bnd]
theorem w_has {x y : Int32} {K : Int32 → Hp → Option (β × Hp)} : wp (bnd (f_X1_has x y σ) K) P ↔ wp (K (b2 (bit x y)) σ) P := by rw [c_has, e_bnd]
theorem w_has3 {x y : Int32} {K : Int32 → Hp → Option (β × Hp)} : wp (bnd (f_X3_has x y σ) K) P ↔ wp (K (b2 (bit x y)) σ) P := by rw [m_has, e_bnd]
theorem w_whole {K : Int32 → Hp → Option (β × Hp)} (h : Sh σ) : wp (bnd (f_X1_wholeNight (some 0) σ) K) P ↔ wp (K (shl 1 (hi σ 0 6) - 1) σ) P := by rw [c_wholeNight h, e_bnd]
theorem w_all {K : Int32 → Hp → Option (β × Hp)} (h : Sh σ) : wp (bnd (f_X1_all (some 0) σ) K) P ↔ wp (K (shl 1 (hi σ 0 5) - 1) σ) P := by rw [c_all h, e_bnd]
theorem w_night {K : Int32 → Hp → Option (β × Hp)} (h : Sh σ) : wp (bnd (f_X3_night (some 37) σ) K) P ↔ wp (K (shl 1 (hi σ 37 1) - 1) σ) P := by rw [m_night h, e_bnd]
theorem w_isRider {K : Int32 → Hp → Option (β × Hp)} {r : Int32} (h : Sh σ) : wp (bnd (f_X1_isRider (some 0) r σ) K) P ↔ wp (K (b2 (isR (hi σ 0 5) r)) σ) P := by rw [c_isRider h, e_bnd]
theorem w_isMan {K : Int32 → Hp → Option (β × Hp)} {r : Int32} (h : Sh σ) : wp (bnd (f_X3_isMan (some 37) r σ) K) P ↔ wp (K (b2 (isR (hi σ 37 3) r)) σ) P := by rw [m_isMan h, e_bnd]
theorem w_isHour {K : Int32 → Hp → Option (β × Hp)} {r : Int32} (h : Sh σ) : wp (bnd (f_X1_isHour (some 0) r σ) K) P ↔ wp (K (b2 (isR (hi σ 0 6) r)) σ) P := by rw [c_isHour h, e_bnd]
theorem w_isHour3 {K : Int32 → Hp → Option (β × Hp)} {r : Int32} : wp (bnd (f_X3_isHour r σ) K) P ↔ wp (K (b2 (0 ≤ r ∧ r ≤ 7)) σ) P := by rw [m_isHour, e_bnd]
theorem w_isPair {K : Int32 → Hp → Option (β × Hp)} {r q : Int32} (h : Sh σ) : wp (bnd (f_X1_isPair (some 0) r q σ) K) P ↔ wp (K (b2 (isTwo (hi σ 0 5) r q)) σ) P := by rw [c_isPair h, e_bnd]
theorem w_areTwo {K : Int32 → Hp → Option (β × Hp)} {r q : Int32} (h : Sh σ) : wp (bnd (f_X3_areTwo (some 37) r q σ) K) P ↔ wp (K (b2 (isTwo (hi σ 37 3) r q)) σ) P := by rw [m_areTwo h, e_bnd]
theorem w_in {K : Int32 → Hp → Option (β × Hp)} {a b c : Int32} : wp (bnd (f_X1_in a.toInt64 b.toInt64 c.toInt64 σ) K) P ↔ wp (K (b2 (b ≤ a ∧ a ≤ c)) σ) P := by rw [c_in, e_bnd]
theorem w_in0 {K : Int32 → Hp → Option (β × Hp)} {a c : Int32} : wp (bnd (f_X1_in a.toInt64 0 c.toInt64 σ) K) P ↔ wp (K (b2 (0 ≤ a ∧ a ≤ c)) σ) P := w_in (b := 0)
theorem w_in_0_1 {K : Int32 → Hp → Option (β × Hp)} {a : Int32} : wp (bnd (f_X1_in a.toInt64 0 1 σ) K) P ↔ wp (K (b2 (0 ≤ a ∧ a ≤ 1)) σ) P := w_in (b := 0) (c := 1)
theorem w_in_0_10 {K : Int32 → Hp → Option (β × Hp)} {a : Int32} : wp (bnd (f_X1_in a.toInt64 0 10 σ) K) P ↔ wp (K (b2 (0 ≤ a ∧ a ≤ 10)) σ) P := w_in (b := 0) (c := 10)
theorem w_in_0_3 {K : Int32 → Hp → Option (β × Hp)} {a : Int32} : wp (bnd (f_X1_in a.toInt64 0 3 σ) K) P ↔ wp (K (b2 (0 ≤ a ∧ a ≤ 3)) σ) P := w_in (b := 0) (c := 3)
theorem w_in_0_30 {K : Int32 → Hp → Option (β × Hp)} {a : Int32} : wp (bnd (f_X1_in a.toInt64 0 30 σ) K) P ↔ wp (K (b2 (0 ≤ a ∧ a ≤ 30)) σ) P := w_in (b := 0) (c := 30)
theorem w_in_0_60 {K : Int32 → Hp → Option (β × Hp)} {a : Int32} : wp (bnd (f_X1_in a.toInt64 0 60 σ) K) P ↔ wp (K (b2 (0 ≤ a ∧ a ≤ 60)) σ) P := w_in (b := 0) (c := 60)
theorem w_in_0_7 {K : Int32 → Hp → Option (β × Hp)} {a : Int32} : wp (bnd (f_X1_in a.toInt64 0 7 σ) K) P ↔ wp (K (b2 (0 ≤ a ∧ a ≤ 7)) σ) P := w_in (b := 0) (c := 7)
theorem w_in_0_9 {K : Int32 → Hp → Option (β × Hp)} {a : Int32} : wp (bnd (f_X1_in a.toInt64 0 9 σ) K) P ↔ wp (K (b2 (0 ≤ a ∧ a ≤ 9)) σ) P := w_in (b := 0) (c := 9)
theorem w_in_0_999 {K : Int32 → Hp → Option (β × Hp)} {a : Int32} : wp (bnd (f_X1_in a.toInt64 0 999 σ) K) P ↔ wp (K (b2 (0 ≤ a ∧ a ≤ 999)) σ) P := w_in (b := 0) (c := 999)
theorem w_in_1_60 {K : Int32 → Hp → Option (β × Hp)} {a : Int32} : wp (bnd (f_X1_in a.toInt64 1 60 σ) K) P ↔ wp (K (b2 (1 ≤ a ∧ a ≤ 60)) σ) P := w_in (b := 1) (c := 60)
theorem w_in_20_27 {K : Int32 → Hp → Option (β × Hp)} {a : Int32} : wp (bnd (f_X1_in a.toInt64 20 27 σ) K) P ↔ wp (K (b2 (20 ≤ a ∧ a ≤ 27)) σ) P := w_in (b := 20) (c := 27)
theorem w_in_2_40 {K : Int32 → Hp → Option (β × Hp)} {a : Int32} : wp (bnd (f_X1_in a.toInt64 2 40 σ) K) P ↔ wp (K (b2 (2 ≤ a ∧ a ≤ 40)) σ) P := w_in (b := 2) (c := 40)
theorem w_in_48_57 {K : Int32 → Hp → Option (β × Hp)} {a : Int32} : wp (bnd (f_X1_in a.toInt64 48 57 σ) K) P ↔ wp (K (b2 (48 ≤ a ∧ a ≤ 57)) σ) P := w_in (b := 48) (c := 57)
theorem w_in3 {K : Int32 → Hp → Option (β × Hp)} {a b c : Int32} : wp (bnd (f_X3_in a b c σ) K) P ↔ wp (K (b2 (b ≤ a ∧ a ≤ c)) σ) P := by rw [m_in, e_bnd]
theorem wp_b2 {p : Prop} [Decidable p] {P : Int32 → Hp → Prop} : wp (rz1 (b2 p) σ) P ↔ P (b2 p) σ := by rw [e_rzb, wp_some]
theorem wp_r0 {P : Int32 → Hp → Prop} : wp (rz1 0 σ) P ↔ P 0 σ := by rw [e_rz0, wp_some]
theorem wp_r1 {P : Int32 → Hp → Prop} : wp (rz1 1 σ) P ↔ P 1 σ := by rw [e_rz1, wp_some]
/-- a row's content -/
def RowC (σ : Hp) (l : List Int64) : Prop := hi σ 0 52 = nI l.length ∧ l.length ≤ 16 ∧ ∀ k, k < l.length → hl σ 36 k = l.getD k 0
def RowM (σ : Hp) (l : List Int64) : Prop := hi σ 37 10 = nI l.length ∧ l.length ≤ 16 ∧ ∀ k, k < l.length → hl σ 43 k = l.getD k 0
end rows3
/-! numbers, for simp -/
theorem l_m1 {a : Nat} (h : a < 2 ^ 31) : (nI a = -1) = False := eq_false (m1_ne h)
theorem l_m1r {a : Nat} (h : a < 2 ^ 31) : ((-1 : Int32) = nI a) = False := eq_false (fun z => m1_ne h z.symm)
theorem l_neg {a : Nat} (h : a < 2 ^ 31) : (nI a < 0) = False := eq_false (nI_pos h)
theorem l_nn {a : Nat} (h : a < 2 ^ 31) : (0 ≤ nI a) = True := eq_true (Int32.not_lt.mp (nI_pos h))
theorem l_eq0 {a : Nat} (h : a < 2 ^ 31) : (nI a = 0) = (a = 0) := nI_eq_l (b := 0) h (by decide)
theorem l_le0 {a : Nat} (h : a < 2 ^ 31) : (nI a ≤ 0) = (a = 0) := by rw [show (0 : Int32) = nI 0 from rfl, nI_le_l h (by decide)]; exact propext (by omega)
theorem l_0lt {a : Nat} (h : a < 2 ^ 31) : (0 < nI a) = (0 < a) := nI_lt_l (a := 0) (by decide) h
theorem l_eq1 {a : Nat} (h : a < 2 ^ 31) : (nI a = 1) = (a = 1) := nI_eq_l (b := 1) h (by decide)
theorem l_m1lt : ((-1 : Int32) < 0) = True := by decide
theorem l_m1le : ((0 : Int32) ≤ -1) = False := by decide
theorem l_m1eq0 : ((-1 : Int32) = 0) = False := by decide
theorem l_10 : ((1 : Int32) = 0) = False := by decide
theorem l_00 : ((0 : Int32) = 0) = True := by decide
theorem l_sub1 {a : Nat} (h : 0 < a) : nI a - 1 = nI (a - 1) := nI_sub (b := 1) h
theorem l_addm1 {a : Nat} (h : 0 < a) : nI a + -1 = nI (a - 1) := by
  rw [← l_sub1 h, Int32.sub_eq_add_neg]
theorem l_1shl {k : Nat} (h : k < 31) : shl 1 (nI k) = nI (2 ^ k) := shl_1 h
theorem l_or0 (a : Nat) : nI a ||| 0 = nI a := by rw [show (0 : Int32) = nI 0 from rfl, nI_or, Nat.or_zero]
theorem l_all (k : Nat) : nI (2 ^ k) - 1 = nI (2 ^ k - 1) := l_sub1 (Nat.two_pow_pos k)
theorem l_1le {a : Nat} (h : a < 2 ^ 31) : ((1 : Int32) ≤ nI a) = (1 ≤ a) := nI_le_l (a := 1) (by decide) h
theorem l_0add (a : Nat) : 0 + nI a = nI a := by rw [show (0 : Int32) = nI 0 from rfl, nI_add, Nat.zero_add]
theorem isR_iff {n : Nat} {v : Int32} (hn' : n < 2 ^ 30) : isR (nI n) v ↔ ∃ r, r < n ∧ v = nI r := by
  constructor
  · rintro ⟨h1, h2⟩
    obtain ⟨k, hk', rfl⟩ := lo_pos h1
    refine ⟨k, ?_, rfl⟩
    by_cases h0 : n = 0
    · subst h0
      have := m1_lt hk'
      rw [show nI 0 - 1 = -1 from rfl] at h2
      exact absurd h2 (Int32.not_le.mpr this)
    · rw [l_sub1 (by omega), nI_le_l hk' (by omega)] at h2
      omega
  · rintro ⟨r, hr', rfl⟩
    refine ⟨by rw [l_nn (by omega)]; trivial, ?_⟩
    rw [l_sub1 (by omega), nI_le_l (by omega) (by omega)]
    omega
theorem isR_nI {n r : Nat} (hn' : n < 2 ^ 30) (hr' : r < 2 ^ 31) : isR (nI n) (nI r) ↔ r < n := by
  rw [isR_iff hn']
  constructor
  · rintro ⟨q, hq, e⟩
    rw [nI_eq (by omega) (by omega)] at e
    omega
  · intro h; exact ⟨r, h, rfl⟩
theorem hl_ne {σ : Hp} {a b i : Nat} {x : Int64} (h : b ≠ a) : hl (wL σ a i x) b = hl σ b := by
  funext k
  rw [hl_wL, if_neg (fun z => h z.1)]
theorem hl_eq {σ : Hp} {a i : Nat} {x : Int64} : hl (wL σ a i x) a i = x := by
  rw [hl_wL, if_pos ⟨rfl, rfl⟩]
theorem hl_ni {σ : Hp} {a i k : Nat} {x : Int64} (h : k ≠ i) : hl (wL σ a i x) a k = hl σ a k := by
  rw [hl_wL, if_neg (fun z => h z.2)]
theorem l_add0 (a : Nat) : nI a + 0 = nI a := nI_add a 0
