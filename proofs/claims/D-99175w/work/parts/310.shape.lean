/-! PURE 2: the shape, id by id; small numbers -/
section shape
variable {σ : Hp}
theorem so_0 (h : Sh σ) : Ok σ 0 0 := ⟨Nat.lt_of_lt_of_le (by decide) h.1, by rw [h.2.1 0 (by decide)]; rfl⟩
theorem so_1 (h : Sh σ) : Ok σ 1 1 := ⟨Nat.lt_of_lt_of_le (by decide) h.1, by rw [h.2.1 1 (by decide)]; rfl⟩
theorem so_2 (h : Sh σ) : Ok σ 2 100 := ⟨Nat.lt_of_lt_of_le (by decide) h.1, by rw [h.2.1 2 (by decide)]; rfl⟩
theorem sl_2 (h : Sh σ) : (hk σ 2).2 = 8 := by rw [h.2.1 2 (by decide)]; rfl
theorem so_3 (h : Sh σ) : Ok σ 3 100 := ⟨Nat.lt_of_lt_of_le (by decide) h.1, by rw [h.2.1 3 (by decide)]; rfl⟩
theorem sl_3 (h : Sh σ) : (hk σ 3).2 = 8 := by rw [h.2.1 3 (by decide)]; rfl
theorem so_4 (h : Sh σ) : Ok σ 4 1 := ⟨Nat.lt_of_lt_of_le (by decide) h.1, by rw [h.2.1 4 (by decide)]; rfl⟩
theorem so_5 (h : Sh σ) : Ok σ 5 100 := ⟨Nat.lt_of_lt_of_le (by decide) h.1, by rw [h.2.1 5 (by decide)]; rfl⟩
theorem sl_5 (h : Sh σ) : (hk σ 5).2 = 8 := by rw [h.2.1 5 (by decide)]; rfl
theorem so_6 (h : Sh σ) : Ok σ 6 100 := ⟨Nat.lt_of_lt_of_le (by decide) h.1, by rw [h.2.1 6 (by decide)]; rfl⟩
theorem sl_6 (h : Sh σ) : (hk σ 6).2 = 8 := by rw [h.2.1 6 (by decide)]; rfl
theorem so_7 (h : Sh σ) : Ok σ 7 100 := ⟨Nat.lt_of_lt_of_le (by decide) h.1, by rw [h.2.1 7 (by decide)]; rfl⟩
theorem sl_7 (h : Sh σ) : (hk σ 7).2 = 8 := by rw [h.2.1 7 (by decide)]; rfl
theorem so_8 (h : Sh σ) : Ok σ 8 100 := ⟨Nat.lt_of_lt_of_le (by decide) h.1, by rw [h.2.1 8 (by decide)]; rfl⟩
theorem sl_8 (h : Sh σ) : (hk σ 8).2 = 8 := by rw [h.2.1 8 (by decide)]; rfl
theorem so_9 (h : Sh σ) : Ok σ 9 100 := ⟨Nat.lt_of_lt_of_le (by decide) h.1, by rw [h.2.1 9 (by decide)]; rfl⟩
theorem sl_9 (h : Sh σ) : (hk σ 9).2 = 8 := by rw [h.2.1 9 (by decide)]; rfl
theorem so_10 (h : Sh σ) : Ok σ 10 100 := ⟨Nat.lt_of_lt_of_le (by decide) h.1, by rw [h.2.1 10 (by decide)]; rfl⟩
theorem sl_10 (h : Sh σ) : (hk σ 10).2 = 80 := by rw [h.2.1 10 (by decide)]; rfl
theorem so_11 (h : Sh σ) : Ok σ 11 100 := ⟨Nat.lt_of_lt_of_le (by decide) h.1, by rw [h.2.1 11 (by decide)]; rfl⟩
theorem sl_11 (h : Sh σ) : (hk σ 11).2 = 8 := by rw [h.2.1 11 (by decide)]; rfl
theorem so_12 (h : Sh σ) : Ok σ 12 100 := ⟨Nat.lt_of_lt_of_le (by decide) h.1, by rw [h.2.1 12 (by decide)]; rfl⟩
theorem sl_12 (h : Sh σ) : (hk σ 12).2 = 8 := by rw [h.2.1 12 (by decide)]; rfl
theorem so_13 (h : Sh σ) : Ok σ 13 100 := ⟨Nat.lt_of_lt_of_le (by decide) h.1, by rw [h.2.1 13 (by decide)]; rfl⟩
theorem sl_13 (h : Sh σ) : (hk σ 13).2 = 8 := by rw [h.2.1 13 (by decide)]; rfl
theorem so_14 (h : Sh σ) : Ok σ 14 104 := ⟨Nat.lt_of_lt_of_le (by decide) h.1, by rw [h.2.1 14 (by decide)]; rfl⟩
theorem sl_14 (h : Sh σ) : (hk σ 14).2 = 12 := by rw [h.2.1 14 (by decide)]; rfl
theorem so_15 (h : Sh σ) : Ok σ 15 1 := ⟨Nat.lt_of_lt_of_le (by decide) h.1, by rw [h.2.1 15 (by decide)]; rfl⟩
theorem so_16 (h : Sh σ) : Ok σ 16 100 := ⟨Nat.lt_of_lt_of_le (by decide) h.1, by rw [h.2.1 16 (by decide)]; rfl⟩
theorem sl_16 (h : Sh σ) : (hk σ 16).2 = 8 := by rw [h.2.1 16 (by decide)]; rfl
theorem so_17 (h : Sh σ) : Ok σ 17 100 := ⟨Nat.lt_of_lt_of_le (by decide) h.1, by rw [h.2.1 17 (by decide)]; rfl⟩
theorem sl_17 (h : Sh σ) : (hk σ 17).2 = 8 := by rw [h.2.1 17 (by decide)]; rfl
theorem so_18 (h : Sh σ) : Ok σ 18 100 := ⟨Nat.lt_of_lt_of_le (by decide) h.1, by rw [h.2.1 18 (by decide)]; rfl⟩
theorem sl_18 (h : Sh σ) : (hk σ 18).2 = 8 := by rw [h.2.1 18 (by decide)]; rfl
theorem so_19 (h : Sh σ) : Ok σ 19 100 := ⟨Nat.lt_of_lt_of_le (by decide) h.1, by rw [h.2.1 19 (by decide)]; rfl⟩
theorem sl_19 (h : Sh σ) : (hk σ 19).2 = 8 := by rw [h.2.1 19 (by decide)]; rfl
theorem so_20 (h : Sh σ) : Ok σ 20 100 := ⟨Nat.lt_of_lt_of_le (by decide) h.1, by rw [h.2.1 20 (by decide)]; rfl⟩
theorem sl_20 (h : Sh σ) : (hk σ 20).2 = 8 := by rw [h.2.1 20 (by decide)]; rfl
theorem so_21 (h : Sh σ) : Ok σ 21 100 := ⟨Nat.lt_of_lt_of_le (by decide) h.1, by rw [h.2.1 21 (by decide)]; rfl⟩
theorem sl_21 (h : Sh σ) : (hk σ 21).2 = 60 := by rw [h.2.1 21 (by decide)]; rfl
theorem so_22 (h : Sh σ) : Ok σ 22 100 := ⟨Nat.lt_of_lt_of_le (by decide) h.1, by rw [h.2.1 22 (by decide)]; rfl⟩
theorem sl_22 (h : Sh σ) : (hk σ 22).2 = 60 := by rw [h.2.1 22 (by decide)]; rfl
theorem so_23 (h : Sh σ) : Ok σ 23 100 := ⟨Nat.lt_of_lt_of_le (by decide) h.1, by rw [h.2.1 23 (by decide)]; rfl⟩
theorem sl_23 (h : Sh σ) : (hk σ 23).2 = 60 := by rw [h.2.1 23 (by decide)]; rfl
theorem so_24 (h : Sh σ) : Ok σ 24 100 := ⟨Nat.lt_of_lt_of_le (by decide) h.1, by rw [h.2.1 24 (by decide)]; rfl⟩
theorem sl_24 (h : Sh σ) : (hk σ 24).2 = 8 := by rw [h.2.1 24 (by decide)]; rfl
theorem so_25 (h : Sh σ) : Ok σ 25 100 := ⟨Nat.lt_of_lt_of_le (by decide) h.1, by rw [h.2.1 25 (by decide)]; rfl⟩
theorem sl_25 (h : Sh σ) : (hk σ 25).2 = 8 := by rw [h.2.1 25 (by decide)]; rfl
theorem so_26 (h : Sh σ) : Ok σ 26 100 := ⟨Nat.lt_of_lt_of_le (by decide) h.1, by rw [h.2.1 26 (by decide)]; rfl⟩
theorem sl_26 (h : Sh σ) : (hk σ 26).2 = 64 := by rw [h.2.1 26 (by decide)]; rfl
theorem so_27 (h : Sh σ) : Ok σ 27 100 := ⟨Nat.lt_of_lt_of_le (by decide) h.1, by rw [h.2.1 27 (by decide)]; rfl⟩
theorem sl_27 (h : Sh σ) : (hk σ 27).2 = 256 := by rw [h.2.1 27 (by decide)]; rfl
theorem so_28 (h : Sh σ) : Ok σ 28 100 := ⟨Nat.lt_of_lt_of_le (by decide) h.1, by rw [h.2.1 28 (by decide)]; rfl⟩
theorem sl_28 (h : Sh σ) : (hk σ 28).2 = 256 := by rw [h.2.1 28 (by decide)]; rfl
theorem so_29 (h : Sh σ) : Ok σ 29 100 := ⟨Nat.lt_of_lt_of_le (by decide) h.1, by rw [h.2.1 29 (by decide)]; rfl⟩
theorem sl_29 (h : Sh σ) : (hk σ 29).2 = 8 := by rw [h.2.1 29 (by decide)]; rfl
theorem so_30 (h : Sh σ) : Ok σ 30 103 := ⟨Nat.lt_of_lt_of_le (by decide) h.1, by rw [h.2.1 30 (by decide)]; rfl⟩
theorem sl_30 (h : Sh σ) : (hk σ 30).2 = 256 := by rw [h.2.1 30 (by decide)]; rfl
theorem so_31 (h : Sh σ) : Ok σ 31 100 := ⟨Nat.lt_of_lt_of_le (by decide) h.1, by rw [h.2.1 31 (by decide)]; rfl⟩
theorem sl_31 (h : Sh σ) : (hk σ 31).2 = 12 := by rw [h.2.1 31 (by decide)]; rfl
theorem so_32 (h : Sh σ) : Ok σ 32 100 := ⟨Nat.lt_of_lt_of_le (by decide) h.1, by rw [h.2.1 32 (by decide)]; rfl⟩
theorem sl_32 (h : Sh σ) : (hk σ 32).2 = 12 := by rw [h.2.1 32 (by decide)]; rfl
theorem so_33 (h : Sh σ) : Ok σ 33 100 := ⟨Nat.lt_of_lt_of_le (by decide) h.1, by rw [h.2.1 33 (by decide)]; rfl⟩
theorem sl_33 (h : Sh σ) : (hk σ 33).2 = 12 := by rw [h.2.1 33 (by decide)]; rfl
theorem so_34 (h : Sh σ) : Ok σ 34 104 := ⟨Nat.lt_of_lt_of_le (by decide) h.1, by rw [h.2.1 34 (by decide)]; rfl⟩
theorem sl_34 (h : Sh σ) : (hk σ 34).2 = 2 := by rw [h.2.1 34 (by decide)]; rfl
theorem so_35 (h : Sh σ) : Ok σ 35 100 := ⟨Nat.lt_of_lt_of_le (by decide) h.1, by rw [h.2.1 35 (by decide)]; rfl⟩
theorem sl_35 (h : Sh σ) : (hk σ 35).2 = 2 := by rw [h.2.1 35 (by decide)]; rfl
theorem so_36 (h : Sh σ) : Ok σ 36 103 := ⟨Nat.lt_of_lt_of_le (by decide) h.1, by rw [h.2.1 36 (by decide)]; rfl⟩
theorem sl_36 (h : Sh σ) : (hk σ 36).2 = 16 := by rw [h.2.1 36 (by decide)]; rfl
theorem so_37 (h : Sh σ) : Ok σ 37 2 := ⟨Nat.lt_of_lt_of_le (by decide) h.1, by rw [h.2.1 37 (by decide)]; rfl⟩
theorem so_38 (h : Sh σ) : Ok σ 38 100 := ⟨Nat.lt_of_lt_of_le (by decide) h.1, by rw [h.2.1 38 (by decide)]; rfl⟩
theorem sl_38 (h : Sh σ) : (hk σ 38).2 = 27 := by rw [h.2.1 38 (by decide)]; rfl
theorem so_39 (h : Sh σ) : Ok σ 39 100 := ⟨Nat.lt_of_lt_of_le (by decide) h.1, by rw [h.2.1 39 (by decide)]; rfl⟩
theorem sl_39 (h : Sh σ) : (hk σ 39).2 = 8 := by rw [h.2.1 39 (by decide)]; rfl
theorem so_40 (h : Sh σ) : Ok σ 40 100 := ⟨Nat.lt_of_lt_of_le (by decide) h.1, by rw [h.2.1 40 (by decide)]; rfl⟩
theorem sl_40 (h : Sh σ) : (hk σ 40).2 = 8 := by rw [h.2.1 40 (by decide)]; rfl
theorem so_41 (h : Sh σ) : Ok σ 41 100 := ⟨Nat.lt_of_lt_of_le (by decide) h.1, by rw [h.2.1 41 (by decide)]; rfl⟩
theorem sl_41 (h : Sh σ) : (hk σ 41).2 = 8 := by rw [h.2.1 41 (by decide)]; rfl
theorem so_42 (h : Sh σ) : Ok σ 42 101 := ⟨Nat.lt_of_lt_of_le (by decide) h.1, by rw [h.2.1 42 (by decide)]; rfl⟩
theorem sl_42 (h : Sh σ) : (hk σ 42).2 = 80 := by rw [h.2.1 42 (by decide)]; rfl
theorem so_43 (h : Sh σ) : Ok σ 43 103 := ⟨Nat.lt_of_lt_of_le (by decide) h.1, by rw [h.2.1 43 (by decide)]; rfl⟩
theorem sl_43 (h : Sh σ) : (hk σ 43).2 = 16 := by rw [h.2.1 43 (by decide)]; rfl
theorem so_44 (h : Sh σ) : Ok σ 44 100 := ⟨Nat.lt_of_lt_of_le (by decide) h.1, by rw [h.2.1 44 (by decide)]; rfl⟩
theorem sl_44 (h : Sh σ) : (hk σ 44).2 = 24 := by rw [h.2.1 44 (by decide)]; rfl
theorem so_45 (h : Sh σ) : Ok σ 45 101 := ⟨Nat.lt_of_lt_of_le (by decide) h.1, by rw [h.2.1 45 (by decide)]; rfl⟩
theorem sl_45 (h : Sh σ) : (hk σ 45).2 = 40 := by rw [h.2.1 45 (by decide)]; rfl
theorem so_46 (h : Sh σ) : Ok σ 46 101 := ⟨Nat.lt_of_lt_of_le (by decide) h.1, by rw [h.2.1 46 (by decide)]; rfl⟩
theorem sl_46 (h : Sh σ) : (hk σ 46).2 = 40 := by rw [h.2.1 46 (by decide)]; rfl
theorem so_47 (h : Sh σ) : Ok σ 47 100 := ⟨Nat.lt_of_lt_of_le (by decide) h.1, by rw [h.2.1 47 (by decide)]; rfl⟩
theorem sl_47 (h : Sh σ) : (hk σ 47).2 = 7 := by rw [h.2.1 47 (by decide)]; rfl
theorem so_48 (h : Sh σ) : Ok σ 48 100 := ⟨Nat.lt_of_lt_of_le (by decide) h.1, by rw [h.2.1 48 (by decide)]; rfl⟩
theorem sl_48 (h : Sh σ) : (hk σ 48).2 = 324 := by rw [h.2.1 48 (by decide)]; rfl
theorem so_49 (h : Sh σ) : Ok σ 49 100 := ⟨Nat.lt_of_lt_of_le (by decide) h.1, by rw [h.2.1 49 (by decide)]; rfl⟩
theorem sl_49 (h : Sh σ) : (hk σ 49).2 = 27 := by rw [h.2.1 49 (by decide)]; rfl
theorem so_50 (h : Sh σ) : Ok σ 50 100 := ⟨Nat.lt_of_lt_of_le (by decide) h.1, by rw [h.2.1 50 (by decide)]; rfl⟩
theorem sl_50 (h : Sh σ) : (hk σ 50).2 = 27 := by rw [h.2.1 50 (by decide)]; rfl
theorem so_51 (h : Sh σ) : Ok σ 51 100 := ⟨Nat.lt_of_lt_of_le (by decide) h.1, by rw [h.2.1 51 (by decide)]; rfl⟩
theorem sl_51 (h : Sh σ) : (hk σ 51).2 = 8 := by rw [h.2.1 51 (by decide)]; rfl
theorem so_52 (h : Sh σ) : Ok σ 52 100 := ⟨Nat.lt_of_lt_of_le (by decide) h.1, by rw [h.2.1 52 (by decide)]; rfl⟩
theorem sl_52 (h : Sh σ) : (hk σ 52).2 = 8 := by rw [h.2.1 52 (by decide)]; rfl
theorem so_53 (h : Sh σ) : Ok σ 53 100 := ⟨Nat.lt_of_lt_of_le (by decide) h.1, by rw [h.2.1 53 (by decide)]; rfl⟩
theorem sl_53 (h : Sh σ) : (hk σ 53).2 = 240 := by rw [h.2.1 53 (by decide)]; rfl
theorem so_54 (h : Sh σ) : Ok σ 54 100 := ⟨Nat.lt_of_lt_of_le (by decide) h.1, by rw [h.2.1 54 (by decide)]; rfl⟩
theorem sl_54 (h : Sh σ) : (hk σ 54).2 = 8 := by rw [h.2.1 54 (by decide)]; rfl
theorem so_55 (h : Sh σ) : Ok σ 55 100 := ⟨Nat.lt_of_lt_of_le (by decide) h.1, by rw [h.2.1 55 (by decide)]; rfl⟩
theorem sl_55 (h : Sh σ) : (hk σ 55).2 = 8 := by rw [h.2.1 55 (by decide)]; rfl
theorem so_56 (h : Sh σ) : Ok σ 56 100 := ⟨Nat.lt_of_lt_of_le (by decide) h.1, by rw [h.2.1 56 (by decide)]; rfl⟩
theorem sl_56 (h : Sh σ) : (hk σ 56).2 = 8 := by rw [h.2.1 56 (by decide)]; rfl
theorem so_57 (h : Sh σ) : Ok σ 57 100 := ⟨Nat.lt_of_lt_of_le (by decide) h.1, by rw [h.2.1 57 (by decide)]; rfl⟩
theorem sl_57 (h : Sh σ) : (hk σ 57).2 = 8 := by rw [h.2.1 57 (by decide)]; rfl
theorem so_58 (h : Sh σ) : Ok σ 58 100 := ⟨Nat.lt_of_lt_of_le (by decide) h.1, by rw [h.2.1 58 (by decide)]; rfl⟩
theorem sl_58 (h : Sh σ) : (hk σ 58).2 = 64 := by rw [h.2.1 58 (by decide)]; rfl
theorem so_59 (h : Sh σ) : Ok σ 59 100 := ⟨Nat.lt_of_lt_of_le (by decide) h.1, by rw [h.2.1 59 (by decide)]; rfl⟩
theorem sl_59 (h : Sh σ) : (hk σ 59).2 = 2304 := by rw [h.2.1 59 (by decide)]; rfl
theorem so_60 (h : Sh σ) : Ok σ 60 100 := ⟨Nat.lt_of_lt_of_le (by decide) h.1, by rw [h.2.1 60 (by decide)]; rfl⟩
theorem sl_60 (h : Sh σ) : (hk σ 60).2 = 2304 := by rw [h.2.1 60 (by decide)]; rfl
theorem so_61 (h : Sh σ) : Ok σ 61 100 := ⟨Nat.lt_of_lt_of_le (by decide) h.1, by rw [h.2.1 61 (by decide)]; rfl⟩
theorem sl_61 (h : Sh σ) : (hk σ 61).2 = 8 := by rw [h.2.1 61 (by decide)]; rfl
theorem so_62 (h : Sh σ) : Ok σ 62 102 := ⟨Nat.lt_of_lt_of_le (by decide) h.1, by rw [h.2.1 62 (by decide)]; rfl⟩
theorem sl_62 (h : Sh σ) : (hk σ 62).2 = 256 := by rw [h.2.1 62 (by decide)]; rfl
theorem so_63 (h : Sh σ) : Ok σ 63 100 := ⟨Nat.lt_of_lt_of_le (by decide) h.1, by rw [h.2.1 63 (by decide)]; rfl⟩
theorem sl_63 (h : Sh σ) : (hk σ 63).2 = 12 := by rw [h.2.1 63 (by decide)]; rfl
theorem so_64 (h : Sh σ) : Ok σ 64 100 := ⟨Nat.lt_of_lt_of_le (by decide) h.1, by rw [h.2.1 64 (by decide)]; rfl⟩
theorem sl_64 (h : Sh σ) : (hk σ 64).2 = 12 := by rw [h.2.1 64 (by decide)]; rfl
theorem so_65 (h : Sh σ) : Ok σ 65 100 := ⟨Nat.lt_of_lt_of_le (by decide) h.1, by rw [h.2.1 65 (by decide)]; rfl⟩
theorem sl_65 (h : Sh σ) : (hk σ 65).2 = 54 := by rw [h.2.1 65 (by decide)]; rfl
theorem so_66 (h : Sh σ) : Ok σ 66 102 := ⟨Nat.lt_of_lt_of_le (by decide) h.1, by rw [h.2.1 66 (by decide)]; rfl⟩
theorem sl_66 (h : Sh σ) : (hk σ 66).2 = 2 := by rw [h.2.1 66 (by decide)]; rfl
theorem so_67 (h : Sh σ) : Ok σ 67 100 := ⟨Nat.lt_of_lt_of_le (by decide) h.1, by rw [h.2.1 67 (by decide)]; rfl⟩
theorem sl_67 (h : Sh σ) : (hk σ 67).2 = 2 := by rw [h.2.1 67 (by decide)]; rfl
theorem so_68 (h : Sh σ) : Ok σ 68 103 := ⟨Nat.lt_of_lt_of_le (by decide) h.1, by rw [h.2.1 68 (by decide)]; rfl⟩
theorem sl_68 (h : Sh σ) : (hk σ 68).2 = 1 := by rw [h.2.1 68 (by decide)]; rfl
theorem sp_0_0 (h : Sh σ) : hr σ 0 0 = some 1 := h.2.2 (0, 0, 1) (List.mem_of_getElem? (i := 0) rfl)
theorem sp_0_1 (h : Sh σ) : hr σ 0 1 = some 4 := h.2.2 (0, 1, 4) (List.mem_of_getElem? (i := 1) rfl)
theorem sp_0_2 (h : Sh σ) : hr σ 0 2 = some 7 := h.2.2 (0, 2, 7) (List.mem_of_getElem? (i := 2) rfl)
theorem sp_0_3 (h : Sh σ) : hr σ 0 3 = some 8 := h.2.2 (0, 3, 8) (List.mem_of_getElem? (i := 3) rfl)
theorem sp_0_4 (h : Sh σ) : hr σ 0 4 = some 9 := h.2.2 (0, 4, 9) (List.mem_of_getElem? (i := 4) rfl)
theorem sp_0_9 (h : Sh σ) : hr σ 0 9 = some 10 := h.2.2 (0, 9, 10) (List.mem_of_getElem? (i := 5) rfl)
theorem sp_0_14 (h : Sh σ) : hr σ 0 14 = some 11 := h.2.2 (0, 14, 11) (List.mem_of_getElem? (i := 6) rfl)
theorem sp_0_15 (h : Sh σ) : hr σ 0 15 = some 12 := h.2.2 (0, 15, 12) (List.mem_of_getElem? (i := 7) rfl)
theorem sp_0_16 (h : Sh σ) : hr σ 0 16 = some 13 := h.2.2 (0, 16, 13) (List.mem_of_getElem? (i := 8) rfl)
theorem sp_0_23 (h : Sh σ) : hr σ 0 23 = some 14 := h.2.2 (0, 23, 14) (List.mem_of_getElem? (i := 9) rfl)
theorem sp_0_24 (h : Sh σ) : hr σ 0 24 = some 15 := h.2.2 (0, 24, 15) (List.mem_of_getElem? (i := 10) rfl)
theorem sp_0_26 (h : Sh σ) : hr σ 0 26 = some 18 := h.2.2 (0, 26, 18) (List.mem_of_getElem? (i := 11) rfl)
theorem sp_0_27 (h : Sh σ) : hr σ 0 27 = some 19 := h.2.2 (0, 27, 19) (List.mem_of_getElem? (i := 12) rfl)
theorem sp_0_30 (h : Sh σ) : hr σ 0 30 = some 20 := h.2.2 (0, 30, 20) (List.mem_of_getElem? (i := 13) rfl)
theorem sp_0_31 (h : Sh σ) : hr σ 0 31 = some 21 := h.2.2 (0, 31, 21) (List.mem_of_getElem? (i := 14) rfl)
theorem sp_0_32 (h : Sh σ) : hr σ 0 32 = some 22 := h.2.2 (0, 32, 22) (List.mem_of_getElem? (i := 15) rfl)
theorem sp_0_33 (h : Sh σ) : hr σ 0 33 = some 23 := h.2.2 (0, 33, 23) (List.mem_of_getElem? (i := 16) rfl)
theorem sp_0_35 (h : Sh σ) : hr σ 0 35 = some 24 := h.2.2 (0, 35, 24) (List.mem_of_getElem? (i := 17) rfl)
theorem sp_0_36 (h : Sh σ) : hr σ 0 36 = some 25 := h.2.2 (0, 36, 25) (List.mem_of_getElem? (i := 18) rfl)
theorem sp_0_37 (h : Sh σ) : hr σ 0 37 = some 26 := h.2.2 (0, 37, 26) (List.mem_of_getElem? (i := 19) rfl)
theorem sp_0_38 (h : Sh σ) : hr σ 0 38 = some 27 := h.2.2 (0, 38, 27) (List.mem_of_getElem? (i := 20) rfl)
theorem sp_0_39 (h : Sh σ) : hr σ 0 39 = some 28 := h.2.2 (0, 39, 28) (List.mem_of_getElem? (i := 21) rfl)
theorem sp_0_40 (h : Sh σ) : hr σ 0 40 = some 29 := h.2.2 (0, 40, 29) (List.mem_of_getElem? (i := 22) rfl)
theorem sp_0_41 (h : Sh σ) : hr σ 0 41 = some 30 := h.2.2 (0, 41, 30) (List.mem_of_getElem? (i := 23) rfl)
theorem sp_0_45 (h : Sh σ) : hr σ 0 45 = some 31 := h.2.2 (0, 45, 31) (List.mem_of_getElem? (i := 24) rfl)
theorem sp_0_46 (h : Sh σ) : hr σ 0 46 = some 32 := h.2.2 (0, 46, 32) (List.mem_of_getElem? (i := 25) rfl)
theorem sp_0_47 (h : Sh σ) : hr σ 0 47 = some 33 := h.2.2 (0, 47, 33) (List.mem_of_getElem? (i := 26) rfl)
theorem sp_0_49 (h : Sh σ) : hr σ 0 49 = some 34 := h.2.2 (0, 49, 34) (List.mem_of_getElem? (i := 27) rfl)
theorem sp_0_50 (h : Sh σ) : hr σ 0 50 = some 35 := h.2.2 (0, 50, 35) (List.mem_of_getElem? (i := 28) rfl)
theorem sp_0_51 (h : Sh σ) : hr σ 0 51 = some 36 := h.2.2 (0, 51, 36) (List.mem_of_getElem? (i := 29) rfl)
theorem sp_1_0 (h : Sh σ) : hr σ 1 0 = some 2 := h.2.2 (1, 0, 2) (List.mem_of_getElem? (i := 30) rfl)
theorem sp_1_1 (h : Sh σ) : hr σ 1 1 = some 3 := h.2.2 (1, 1, 3) (List.mem_of_getElem? (i := 31) rfl)
theorem sp_4_0 (h : Sh σ) : hr σ 4 0 = some 5 := h.2.2 (4, 0, 5) (List.mem_of_getElem? (i := 32) rfl)
theorem sp_4_1 (h : Sh σ) : hr σ 4 1 = some 6 := h.2.2 (4, 1, 6) (List.mem_of_getElem? (i := 33) rfl)
theorem sp_15_0 (h : Sh σ) : hr σ 15 0 = some 16 := h.2.2 (15, 0, 16) (List.mem_of_getElem? (i := 34) rfl)
theorem sp_15_1 (h : Sh σ) : hr σ 15 1 = some 17 := h.2.2 (15, 1, 17) (List.mem_of_getElem? (i := 35) rfl)
theorem sp_37_0 (h : Sh σ) : hr σ 37 0 = some 38 := h.2.2 (37, 0, 38) (List.mem_of_getElem? (i := 36) rfl)
theorem sp_37_4 (h : Sh σ) : hr σ 37 4 = some 39 := h.2.2 (37, 4, 39) (List.mem_of_getElem? (i := 37) rfl)
theorem sp_37_5 (h : Sh σ) : hr σ 37 5 = some 40 := h.2.2 (37, 5, 40) (List.mem_of_getElem? (i := 38) rfl)
theorem sp_37_6 (h : Sh σ) : hr σ 37 6 = some 41 := h.2.2 (37, 6, 41) (List.mem_of_getElem? (i := 39) rfl)
theorem sp_37_7 (h : Sh σ) : hr σ 37 7 = some 42 := h.2.2 (37, 7, 42) (List.mem_of_getElem? (i := 40) rfl)
theorem sp_37_9 (h : Sh σ) : hr σ 37 9 = some 43 := h.2.2 (37, 9, 43) (List.mem_of_getElem? (i := 41) rfl)
theorem sp_37_17 (h : Sh σ) : hr σ 37 17 = some 44 := h.2.2 (37, 17, 44) (List.mem_of_getElem? (i := 42) rfl)
theorem sp_37_22 (h : Sh σ) : hr σ 37 22 = some 47 := h.2.2 (37, 22, 47) (List.mem_of_getElem? (i := 43) rfl)
theorem sp_37_23 (h : Sh σ) : hr σ 37 23 = some 48 := h.2.2 (37, 23, 48) (List.mem_of_getElem? (i := 44) rfl)
theorem sp_37_25 (h : Sh σ) : hr σ 37 25 = some 49 := h.2.2 (37, 25, 49) (List.mem_of_getElem? (i := 45) rfl)
theorem sp_37_26 (h : Sh σ) : hr σ 37 26 = some 50 := h.2.2 (37, 26, 50) (List.mem_of_getElem? (i := 46) rfl)
theorem sp_37_29 (h : Sh σ) : hr σ 37 29 = some 51 := h.2.2 (37, 29, 51) (List.mem_of_getElem? (i := 47) rfl)
theorem sp_37_30 (h : Sh σ) : hr σ 37 30 = some 52 := h.2.2 (37, 30, 52) (List.mem_of_getElem? (i := 48) rfl)
theorem sp_37_31 (h : Sh σ) : hr σ 37 31 = some 53 := h.2.2 (37, 31, 53) (List.mem_of_getElem? (i := 49) rfl)
theorem sp_37_32 (h : Sh σ) : hr σ 37 32 = some 54 := h.2.2 (37, 32, 54) (List.mem_of_getElem? (i := 50) rfl)
theorem sp_37_33 (h : Sh σ) : hr σ 37 33 = some 55 := h.2.2 (37, 33, 55) (List.mem_of_getElem? (i := 51) rfl)
theorem sp_37_34 (h : Sh σ) : hr σ 37 34 = some 56 := h.2.2 (37, 34, 56) (List.mem_of_getElem? (i := 52) rfl)
theorem sp_37_35 (h : Sh σ) : hr σ 37 35 = some 57 := h.2.2 (37, 35, 57) (List.mem_of_getElem? (i := 53) rfl)
theorem sp_37_36 (h : Sh σ) : hr σ 37 36 = some 58 := h.2.2 (37, 36, 58) (List.mem_of_getElem? (i := 54) rfl)
theorem sp_37_37 (h : Sh σ) : hr σ 37 37 = some 59 := h.2.2 (37, 37, 59) (List.mem_of_getElem? (i := 55) rfl)
theorem sp_37_38 (h : Sh σ) : hr σ 37 38 = some 60 := h.2.2 (37, 38, 60) (List.mem_of_getElem? (i := 56) rfl)
theorem sp_37_40 (h : Sh σ) : hr σ 37 40 = some 61 := h.2.2 (37, 40, 61) (List.mem_of_getElem? (i := 57) rfl)
theorem sp_37_41 (h : Sh σ) : hr σ 37 41 = some 62 := h.2.2 (37, 41, 62) (List.mem_of_getElem? (i := 58) rfl)
theorem sp_37_42 (h : Sh σ) : hr σ 37 42 = some 63 := h.2.2 (37, 42, 63) (List.mem_of_getElem? (i := 59) rfl)
theorem sp_37_43 (h : Sh σ) : hr σ 37 43 = some 64 := h.2.2 (37, 43, 64) (List.mem_of_getElem? (i := 60) rfl)
theorem sp_37_48 (h : Sh σ) : hr σ 37 48 = some 65 := h.2.2 (37, 48, 65) (List.mem_of_getElem? (i := 61) rfl)
theorem sp_37_49 (h : Sh σ) : hr σ 37 49 = some 66 := h.2.2 (37, 49, 66) (List.mem_of_getElem? (i := 62) rfl)
theorem sp_37_50 (h : Sh σ) : hr σ 37 50 = some 67 := h.2.2 (37, 50, 67) (List.mem_of_getElem? (i := 63) rfl)
/-- all that the shape says of the class's cells -/
theorem Sh.c (h : Sh σ) : Ok σ 0 0 ∧ Ok σ 1 1 ∧ Ok σ 2 100 ∧ Ok σ 3 100 ∧ Ok σ 4 1 ∧ Ok σ 5 100 ∧ Ok σ 6 100 ∧ Ok σ 7 100 ∧ Ok σ 8 100 ∧ Ok σ 9 100 ∧ Ok σ 10 100 ∧ Ok σ 11 100 ∧ Ok σ 12 100 ∧ Ok σ 13 100 ∧ Ok σ 14 104 ∧ Ok σ 15 1 ∧ Ok σ 16 100 ∧ Ok σ 17 100 ∧ Ok σ 18 100 ∧ Ok σ 19 100 ∧ Ok σ 20 100 ∧ Ok σ 21 100 ∧ Ok σ 22 100 ∧ Ok σ 23 100 ∧ Ok σ 24 100 ∧ Ok σ 25 100 ∧ Ok σ 26 100 ∧ Ok σ 27 100 ∧ Ok σ 28 100 ∧ Ok σ 29 100 ∧ Ok σ 30 103 ∧ Ok σ 31 100 ∧ Ok σ 32 100 ∧ Ok σ 33 100 ∧ Ok σ 34 104 ∧ Ok σ 35 100 ∧ Ok σ 36 103 ∧ (hk σ 2).2 = 8 ∧ (hk σ 3).2 = 8 ∧ (hk σ 5).2 = 8 ∧ (hk σ 6).2 = 8 ∧ (hk σ 7).2 = 8 ∧ (hk σ 8).2 = 8 ∧ (hk σ 9).2 = 8 ∧ (hk σ 10).2 = 80 ∧ (hk σ 11).2 = 8 ∧ (hk σ 12).2 = 8 ∧ (hk σ 13).2 = 8 ∧ (hk σ 14).2 = 12 ∧ (hk σ 16).2 = 8 ∧ (hk σ 17).2 = 8 ∧ (hk σ 18).2 = 8 ∧ (hk σ 19).2 = 8 ∧ (hk σ 20).2 = 8 ∧ (hk σ 21).2 = 60 ∧ (hk σ 22).2 = 60 ∧ (hk σ 23).2 = 60 ∧ (hk σ 24).2 = 8 ∧ (hk σ 25).2 = 8 ∧ (hk σ 26).2 = 64 ∧ (hk σ 27).2 = 256 ∧ (hk σ 28).2 = 256 ∧ (hk σ 29).2 = 8 ∧ (hk σ 30).2 = 256 ∧ (hk σ 31).2 = 12 ∧ (hk σ 32).2 = 12 ∧ (hk σ 33).2 = 12 ∧ (hk σ 34).2 = 2 ∧ (hk σ 35).2 = 2 ∧ (hk σ 36).2 = 16 ∧ hr σ 0 0 = some 1 ∧ hr σ 0 1 = some 4 ∧ hr σ 0 2 = some 7 ∧ hr σ 0 3 = some 8 ∧ hr σ 0 4 = some 9 ∧ hr σ 0 9 = some 10 ∧ hr σ 0 14 = some 11 ∧ hr σ 0 15 = some 12 ∧ hr σ 0 16 = some 13 ∧ hr σ 0 23 = some 14 ∧ hr σ 0 24 = some 15 ∧ hr σ 0 26 = some 18 ∧ hr σ 0 27 = some 19 ∧ hr σ 0 30 = some 20 ∧ hr σ 0 31 = some 21 ∧ hr σ 0 32 = some 22 ∧ hr σ 0 33 = some 23 ∧ hr σ 0 35 = some 24 ∧ hr σ 0 36 = some 25 ∧ hr σ 0 37 = some 26 ∧ hr σ 0 38 = some 27 ∧ hr σ 0 39 = some 28 ∧ hr σ 0 40 = some 29 ∧ hr σ 0 41 = some 30 ∧ hr σ 0 45 = some 31 ∧ hr σ 0 46 = some 32 ∧ hr σ 0 47 = some 33 ∧ hr σ 0 49 = some 34 ∧ hr σ 0 50 = some 35 ∧ hr σ 0 51 = some 36 ∧ hr σ 1 0 = some 2 ∧ hr σ 1 1 = some 3 ∧ hr σ 4 0 = some 5 ∧ hr σ 4 1 = some 6 ∧ hr σ 15 0 = some 16 ∧ hr σ 15 1 = some 17 := ⟨so_0 h, so_1 h, so_2 h, so_3 h, so_4 h, so_5 h, so_6 h, so_7 h, so_8 h, so_9 h, so_10 h, so_11 h, so_12 h, so_13 h, so_14 h, so_15 h, so_16 h, so_17 h, so_18 h, so_19 h, so_20 h, so_21 h, so_22 h, so_23 h, so_24 h, so_25 h, so_26 h, so_27 h, so_28 h, so_29 h, so_30 h, so_31 h, so_32 h, so_33 h, so_34 h, so_35 h, so_36 h, sl_2 h, sl_3 h, sl_5 h, sl_6 h, sl_7 h, sl_8 h, sl_9 h, sl_10 h, sl_11 h, sl_12 h, sl_13 h, sl_14 h, sl_16 h, sl_17 h, sl_18 h, sl_19 h, sl_20 h, sl_21 h, sl_22 h, sl_23 h, sl_24 h, sl_25 h, sl_26 h, sl_27 h, sl_28 h, sl_29 h, sl_30 h, sl_31 h, sl_32 h, sl_33 h, sl_34 h, sl_35 h, sl_36 h, sp_0_0 h, sp_0_1 h, sp_0_2 h, sp_0_3 h, sp_0_4 h, sp_0_9 h, sp_0_14 h, sp_0_15 h, sp_0_16 h, sp_0_23 h, sp_0_24 h, sp_0_26 h, sp_0_27 h, sp_0_30 h, sp_0_31 h, sp_0_32 h, sp_0_33 h, sp_0_35 h, sp_0_36 h, sp_0_37 h, sp_0_38 h, sp_0_39 h, sp_0_40 h, sp_0_41 h, sp_0_45 h, sp_0_46 h, sp_0_47 h, sp_0_49 h, sp_0_50 h, sp_0_51 h, sp_1_0 h, sp_1_1 h, sp_4_0 h, sp_4_1 h, sp_15_0 h, sp_15_1 h⟩
/-- and of the reference's -/
theorem Sh.m (h : Sh σ) : Ok σ 37 2 ∧ Ok σ 38 100 ∧ Ok σ 39 100 ∧ Ok σ 40 100 ∧ Ok σ 41 100 ∧ Ok σ 42 101 ∧ Ok σ 43 103 ∧ Ok σ 44 100 ∧ Ok σ 45 101 ∧ Ok σ 46 101 ∧ Ok σ 47 100 ∧ Ok σ 48 100 ∧ Ok σ 49 100 ∧ Ok σ 50 100 ∧ Ok σ 51 100 ∧ Ok σ 52 100 ∧ Ok σ 53 100 ∧ Ok σ 54 100 ∧ Ok σ 55 100 ∧ Ok σ 56 100 ∧ Ok σ 57 100 ∧ Ok σ 58 100 ∧ Ok σ 59 100 ∧ Ok σ 60 100 ∧ Ok σ 61 100 ∧ Ok σ 62 102 ∧ Ok σ 63 100 ∧ Ok σ 64 100 ∧ Ok σ 65 100 ∧ Ok σ 66 102 ∧ Ok σ 67 100 ∧ Ok σ 68 103 ∧ (hk σ 38).2 = 27 ∧ (hk σ 39).2 = 8 ∧ (hk σ 40).2 = 8 ∧ (hk σ 41).2 = 8 ∧ (hk σ 42).2 = 80 ∧ (hk σ 43).2 = 16 ∧ (hk σ 44).2 = 24 ∧ (hk σ 45).2 = 40 ∧ (hk σ 46).2 = 40 ∧ (hk σ 47).2 = 7 ∧ (hk σ 48).2 = 324 ∧ (hk σ 49).2 = 27 ∧ (hk σ 50).2 = 27 ∧ (hk σ 51).2 = 8 ∧ (hk σ 52).2 = 8 ∧ (hk σ 53).2 = 240 ∧ (hk σ 54).2 = 8 ∧ (hk σ 55).2 = 8 ∧ (hk σ 56).2 = 8 ∧ (hk σ 57).2 = 8 ∧ (hk σ 58).2 = 64 ∧ (hk σ 59).2 = 2304 ∧ (hk σ 60).2 = 2304 ∧ (hk σ 61).2 = 8 ∧ (hk σ 62).2 = 256 ∧ (hk σ 63).2 = 12 ∧ (hk σ 64).2 = 12 ∧ (hk σ 65).2 = 54 ∧ (hk σ 66).2 = 2 ∧ (hk σ 67).2 = 2 ∧ (hk σ 68).2 = 1 ∧ hr σ 37 0 = some 38 ∧ hr σ 37 4 = some 39 ∧ hr σ 37 5 = some 40 ∧ hr σ 37 6 = some 41 ∧ hr σ 37 7 = some 42 ∧ hr σ 37 9 = some 43 ∧ hr σ 37 17 = some 44 ∧ hr σ 37 22 = some 47 ∧ hr σ 37 23 = some 48 ∧ hr σ 37 25 = some 49 ∧ hr σ 37 26 = some 50 ∧ hr σ 37 29 = some 51 ∧ hr σ 37 30 = some 52 ∧ hr σ 37 31 = some 53 ∧ hr σ 37 32 = some 54 ∧ hr σ 37 33 = some 55 ∧ hr σ 37 34 = some 56 ∧ hr σ 37 35 = some 57 ∧ hr σ 37 36 = some 58 ∧ hr σ 37 37 = some 59 ∧ hr σ 37 38 = some 60 ∧ hr σ 37 40 = some 61 ∧ hr σ 37 41 = some 62 ∧ hr σ 37 42 = some 63 ∧ hr σ 37 43 = some 64 ∧ hr σ 37 48 = some 65 ∧ hr σ 37 49 = some 66 ∧ hr σ 37 50 = some 67 := ⟨so_37 h, so_38 h, so_39 h, so_40 h, so_41 h, so_42 h, so_43 h, so_44 h, so_45 h, so_46 h, so_47 h, so_48 h, so_49 h, so_50 h, so_51 h, so_52 h, so_53 h, so_54 h, so_55 h, so_56 h, so_57 h, so_58 h, so_59 h, so_60 h, so_61 h, so_62 h, so_63 h, so_64 h, so_65 h, so_66 h, so_67 h, so_68 h, sl_38 h, sl_39 h, sl_40 h, sl_41 h, sl_42 h, sl_43 h, sl_44 h, sl_45 h, sl_46 h, sl_47 h, sl_48 h, sl_49 h, sl_50 h, sl_51 h, sl_52 h, sl_53 h, sl_54 h, sl_55 h, sl_56 h, sl_57 h, sl_58 h, sl_59 h, sl_60 h, sl_61 h, sl_62 h, sl_63 h, sl_64 h, sl_65 h, sl_66 h, sl_67 h, sl_68 h, sp_37_0 h, sp_37_4 h, sp_37_5 h, sp_37_6 h, sp_37_7 h, sp_37_9 h, sp_37_17 h, sp_37_22 h, sp_37_23 h, sp_37_25 h, sp_37_26 h, sp_37_29 h, sp_37_30 h, sp_37_31 h, sp_37_32 h, sp_37_33 h, sp_37_34 h, sp_37_35 h, sp_37_36 h, sp_37_37 h, sp_37_38 h, sp_37_40 h, sp_37_41 h, sp_37_42 h, sp_37_43 h, sp_37_48 h, sp_37_49 h, sp_37_50 h⟩
theorem Sh_wI {a i : Nat} {x : Int32} : Sh (wI σ a i x) ↔ Sh σ := Iff.rfl
theorem Sh_wL {a i : Nat} {x : Int64} : Sh (wL σ a i x) ↔ Sh σ := Iff.rfl
end shape
/-! numbers: nI n for small n -/
theorem inb_nI {i n : Nat} (h : i < 2 ^ 31) : inb (nI i) n ↔ i < n := by
  unfold inb
  rw [nI_clamp h]
  have := nI_pos h
  constructor
  · intro q; exact Nat.not_le.mp fun z => q (Or.inr z)
  · rintro q (z | z)
    · exact this z
    · omega
theorem ix_nI {i : Nat} (h : i < 2 ^ 31) : ix (nI i) = i := nI_clamp h
theorem nI_sub {a b : Nat} (h : b ≤ a) : nI a - nI b = nI (a - b) := pk_sub h
theorem nI_mul (a b : Nat) : nI a * nI b = nI (a * b) := pk_mul a b

theorem n_0 : (0 : Int32) = nI 0 := rfl
theorem n_1 : (1 : Int32) = nI 1 := rfl
theorem n_2 : (2 : Int32) = nI 2 := rfl
theorem n_3 : (3 : Int32) = nI 3 := rfl
theorem n_4 : (4 : Int32) = nI 4 := rfl
theorem n_5 : (5 : Int32) = nI 5 := rfl
theorem n_6 : (6 : Int32) = nI 6 := rfl
theorem n_7 : (7 : Int32) = nI 7 := rfl
theorem n_8 : (8 : Int32) = nI 8 := rfl
theorem n_9 : (9 : Int32) = nI 9 := rfl
theorem n_10 : (10 : Int32) = nI 10 := rfl
theorem n_11 : (11 : Int32) = nI 11 := rfl
theorem n_12 : (12 : Int32) = nI 12 := rfl
theorem n_13 : (13 : Int32) = nI 13 := rfl
theorem n_14 : (14 : Int32) = nI 14 := rfl
theorem n_15 : (15 : Int32) = nI 15 := rfl
theorem n_16 : (16 : Int32) = nI 16 := rfl
theorem n_17 : (17 : Int32) = nI 17 := rfl
theorem n_18 : (18 : Int32) = nI 18 := rfl
theorem n_19 : (19 : Int32) = nI 19 := rfl
theorem n_20 : (20 : Int32) = nI 20 := rfl
theorem n_21 : (21 : Int32) = nI 21 := rfl
theorem n_22 : (22 : Int32) = nI 22 := rfl
theorem n_23 : (23 : Int32) = nI 23 := rfl
theorem n_24 : (24 : Int32) = nI 24 := rfl
theorem n_25 : (25 : Int32) = nI 25 := rfl
theorem n_26 : (26 : Int32) = nI 26 := rfl
theorem n_27 : (27 : Int32) = nI 27 := rfl
theorem n_28 : (28 : Int32) = nI 28 := rfl
theorem n_29 : (29 : Int32) = nI 29 := rfl
theorem n_30 : (30 : Int32) = nI 30 := rfl
theorem n_31 : (31 : Int32) = nI 31 := rfl
theorem n_32 : (32 : Int32) = nI 32 := rfl
theorem n_33 : (33 : Int32) = nI 33 := rfl
theorem n_34 : (34 : Int32) = nI 34 := rfl
theorem n_35 : (35 : Int32) = nI 35 := rfl
theorem n_36 : (36 : Int32) = nI 36 := rfl
theorem n_37 : (37 : Int32) = nI 37 := rfl
theorem n_38 : (38 : Int32) = nI 38 := rfl
theorem n_39 : (39 : Int32) = nI 39 := rfl
theorem n_40 : (40 : Int32) = nI 40 := rfl
theorem n_41 : (41 : Int32) = nI 41 := rfl
theorem n_42 : (42 : Int32) = nI 42 := rfl
theorem n_43 : (43 : Int32) = nI 43 := rfl
theorem n_44 : (44 : Int32) = nI 44 := rfl
theorem n_45 : (45 : Int32) = nI 45 := rfl
theorem n_46 : (46 : Int32) = nI 46 := rfl
theorem n_47 : (47 : Int32) = nI 47 := rfl
theorem n_48 : (48 : Int32) = nI 48 := rfl
theorem n_49 : (49 : Int32) = nI 49 := rfl
theorem n_50 : (50 : Int32) = nI 50 := rfl
theorem n_51 : (51 : Int32) = nI 51 := rfl
theorem n_52 : (52 : Int32) = nI 52 := rfl
theorem n_53 : (53 : Int32) = nI 53 := rfl
theorem n_54 : (54 : Int32) = nI 54 := rfl
theorem n_55 : (55 : Int32) = nI 55 := rfl
theorem n_56 : (56 : Int32) = nI 56 := rfl
theorem n_57 : (57 : Int32) = nI 57 := rfl
theorem n_58 : (58 : Int32) = nI 58 := rfl
theorem n_59 : (59 : Int32) = nI 59 := rfl
theorem n_60 : (60 : Int32) = nI 60 := rfl
theorem n_61 : (61 : Int32) = nI 61 := rfl
theorem n_62 : (62 : Int32) = nI 62 := rfl
theorem n_63 : (63 : Int32) = nI 63 := rfl
theorem n_64 : (64 : Int32) = nI 64 := rfl
theorem n_76 : (76 : Int32) = nI 76 := rfl
theorem n_80 : (80 : Int32) = nI 80 := rfl
theorem n_99 : (99 : Int32) = nI 99 := rfl
theorem n_100 : (100 : Int32) = nI 100 := rfl
theorem n_255 : (255 : Int32) = nI 255 := rfl
theorem n_256 : (256 : Int32) = nI 256 := rfl
theorem n_999 : (999 : Int32) = nI 999 := rfl
theorem n_1000000 : (1000000 : Int32) = nI 1000000 := rfl
