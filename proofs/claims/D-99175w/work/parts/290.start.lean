/-! THE START: what the Statement gives, as the foundation wants it -/
def hp0 : Hp := (0, 0, fun _ => (0, 0), fun _ _ => 0, fun _ _ => 0, fun _ _ => none)
abbrev strT (i : Nat) : Term := .string "RockingHorse" (strIx.getD i 0)
set_option maxRecDepth 100000
theorem in_NSE : ∀ w ∈ u_ws RJ9 (fun _ => ("", "", "", false)) 0, w ∈ lw_tbl := fun w h => nomatch h
theorem st_classes {s : State} {args : Array Value} (h : ∀ w ∈ lw_tbl, w.before args s = true) : ∃ D : va_G, ∀ (c : Nat) (q : vw_C), clsL[c]? = some q → u_Kn s q.1 q.2.1 q.2.2 (D.1 c) (D.2 c) := by
  obtain ⟨c0, i0, k0⟩ := u_known (C := RX1) (T := TX1) (N := 53) (n := 53) h (fun w hw => lw_all_tbl (in_X1 w hw)) (h _ (lw_all_tbl q128))
  obtain ⟨c1, i1, k1⟩ := u_known (C := RX2) (T := TX2) (N := 6) (n := 6) h (fun w hw => lw_all_tbl (in_X2 w hw)) (h _ (lw_all_tbl q136))
  obtain ⟨c2, i2, k2⟩ := u_known (C := RX3) (T := TX3) (N := 51) (n := 51) h (fun w hw => lw_all_tbl (in_X3 w hw)) (h _ (lw_all_tbl q1050))
  obtain ⟨c3, i3, k3⟩ := u_known (C := RX5) (T := TK3) (N := 3) (n := 3) h (fun w hw => lw_all_tbl (in_K3 w hw)) (h _ (lw_all_tbl q489))
  obtain ⟨c4, i4, k4⟩ := u_known (C := RX6) (T := TK4) (N := 3) (n := 3) h (fun w hw => lw_all_tbl (in_K4 w hw)) (h _ (lw_all_tbl q514))
  obtain ⟨c5, i5, k5⟩ := u_known (C := RX7) (T := TK5) (N := 3) (n := 3) h (fun w hw => lw_all_tbl (in_K5 w hw)) (h _ (lw_all_tbl q533))
  obtain ⟨c6, i6, k6⟩ := u_known (C := RX8) (T := TK6) (N := 5) (n := 5) h (fun w hw => lw_all_tbl (in_K6 w hw)) (h _ (lw_all_tbl q553))
  obtain ⟨c7, i7, k7⟩ := u_known (C := RJ9) (T := fun _ => ("", "", "", false)) (N := 0) (n := 6) h in_NSE (h _ (lw_all_tbl q978))
  refine ⟨(fun k => match k with | 0 => c0 | 1 => c1 | 2 => c2 | 3 => c3 | 4 => c4 | 5 => c5 | 6 => c6 | _ => c7, fun k => match k with | 0 => i0 | 1 => i1 | 2 => i2 | 3 => i3 | 4 => i4 | 5 => i5 | 6 => i6 | _ => i7), ?_⟩
  intro c q hq
  match c, hq with
  | 0, hq => cases hq; exact k0
  | 1, hq => cases hq; exact k1
  | 2, hq => cases hq; exact k2
  | 3, hq => cases hq; exact k3
  | 4, hq => cases hq; exact k4
  | 5, hq => cases hq; exact k5
  | 6, hq => cases hq; exact k6
  | 7, hq => cases hq; exact k7
  | c + 8, hq => simp at hq
theorem st_arr {s : State} {args : Array Value} {ty : FieldType} (hty : ∀ C, ty ≠ .object C) (h : (Cond.arrayClass ty).before args s = true) : ∃ cA : ClassId, ArrOfT s cA ty ∧ va_RA s cA ty := by
  obtain ⟨c, k, comp, h1, h2, h3⟩ := Cond.arrayClass_spec h
  refine ⟨c, fun n z => ⟨fun k h => (by cases h), k, h2, comp, h3⟩, ?_⟩
  cases ty with
  | object C => exact absurd rfl (hty C)
  | _ => exact h1
theorem st_arrO {s : State} {args : Array Value} (h : (Cond.arrayOver (.object "RockingHorse$Horse")).before args s = true) : ∃ cA : ClassId, ArrOfT s cA (.object RX2) ∧ va_RA s cA (.object RX2) := by
  obtain ⟨comp, c, k, h1, -, h3, h4, h5⟩ := Cond.arrayOver_spec h
  exact ⟨c, fun n z => ⟨fun k h => (by cases h), k, h3, comp, h4⟩, k, comp, h3, h4, h1, h5⟩
theorem fl_1 : ∀ i, i < 8 → Cond.exactly (strT i) "java/lang/String" ∈ flatC narrow_1 := by decide +kernel
theorem fl_2 : ∀ i, i < 8 → Cond.eq (.field (strT i) "java/lang/String" "coder" "B") (.int 0) ∈ flatC narrow_1 := by decide +kernel
theorem fl_3 : ∀ i, i < 8 → Cond.arrayOf (.field (strT i) "java/lang/String" "value" "[B") .byte ∈ flatC narrow_1 := by decide +kernel
theorem fl_4 : ∀ i, i < 8 → Cond.eq (.length (.field (strT i) "java/lang/String" "value" "[B")) (.int (Int32.ofNat (strLen.getD i 0))) ∈ flatC narrow_1 := by decide +kernel
theorem fl_5 : ∀ i, i < 8 → ∀ j, j < strLen.getD i 0 → Cond.eq (.elem (.field (strT i) "java/lang/String" "value" "[B") (.int (Int32.ofNat j))) (.int ((strByt.getD i []).getD j 0)) ∈ flatC narrow_1 := by decide +kernel
theorem fl_6 : ∀ i, i < 8 → ∀ j, j < 8 → i = j ∨ (Cond.not (Cond.eq (strT i) (strT j)) ∈ flatC narrow_1 ∨ Cond.not (Cond.eq (strT j) (strT i)) ∈ flatC narrow_1) := by decide +kernel
theorem fl_7 : Cond.eq (.static "java/lang/String" "COMPACT_STRINGS" "Z") (.int 1) ∈ flatC narrow_1 := by decide +kernel
theorem fl_8 : Cond.isRef (.static Bundle.tN "UNASSIGNED_STACK" Bundle.steD) ∈ flatC narrow_1 := by decide +kernel
theorem fl_9 : Cond.isRef (.static Bundle.tN "SUPPRESSED_SENTINEL" Bundle.listD) ∈ flatC narrow_1 := by decide +kernel
theorem st_len : ∀ i, i < 8 → strLen.getD i 0 < 2 ^ 31 := by decide +kernel
theorem nwF_tbl : ∀ w ∈ nwF, Cond.fieldLinkNest w.1 w.2.1 w.2.2.1 w.2.2.2.1 w.2.2.2.2.1 w.2.2.2.2.2 ∈ lw_tbl := List.forall_mem_cons.mpr ⟨nft_142, List.forall_mem_cons.mpr ⟨nft_144, List.forall_mem_cons.mpr ⟨nft_145, List.forall_mem_cons.mpr ⟨nft_147, List.forall_mem_cons.mpr ⟨nft_149, List.forall_mem_cons.mpr ⟨nft_150, List.forall_mem_cons.mpr ⟨nft_152, List.forall_mem_cons.mpr ⟨nft_154, List.forall_mem_cons.mpr ⟨nft_174, List.forall_mem_cons.mpr ⟨nft_176, List.forall_mem_cons.mpr ⟨nft_178, List.forall_mem_cons.mpr ⟨nft_192, List.forall_mem_cons.mpr ⟨nft_194, List.forall_mem_cons.mpr ⟨nft_196, fun _ h => nomatch h⟩⟩⟩⟩⟩⟩⟩⟩⟩⟩⟩⟩⟩⟩
theorem nwM_tbl : ∀ w ∈ nwM, Cond.methodLinkNest w.1 w.2.1 w.2.2.1 w.2.2.2 ∈ lw_tbl := List.forall_mem_cons.mpr ⟨nmt_137, List.forall_mem_cons.mpr ⟨nmt_493, List.forall_mem_cons.mpr ⟨nmt_522, List.forall_mem_cons.mpr ⟨nmt_537, List.forall_mem_cons.mpr ⟨nmt_557, fun _ h => nomatch h⟩⟩⟩⟩⟩
theorem nwD_tbl : ∀ w ∈ nwD, Cond.declares w ∈ lw_tbl := List.forall_mem_cons.mpr ⟨q586, List.forall_mem_cons.mpr ⟨q980, List.forall_mem_cons.mpr ⟨q982, List.forall_mem_cons.mpr ⟨q984, fun _ h => nomatch h⟩⟩⟩⟩
theorem st_strR : ∀ i, i < 8 → Cond.stringRef "RockingHorse" (strIx.getD i 0) (strTx.getD i "") ∈ lw_tbl := by
  intro i hi
  match i, hi with
  | 0, _ => exact q364
  | 1, _ => exact q457
  | 2, _ => exact q458
  | 3, _ => exact q531
  | 4, _ => exact q549
  | 5, _ => exact q550
  | 6, _ => exact q551
  | 7, _ => exact q695
  | i + 8, h => exact absurd h (by omega)
/-- the whole start: a context in which the law's walk holds -/
theorem st_all {p : Program} {e : Env} {s : State} {m : MethodId} {below : List Frame} {meth : Method} {c : Code} (l : Launch) (hflags : l.flags = flags0) {b L : Nat} {xs : Nat → Int32} (C0 : lw_At p s m meth c b L xs) :
    ∃ Y : Yx, Y.1 = s.heap.size ∧ Y.2.2.1 16 = b ∧ OkX (p, l, e, room_1, s, m, #[Value.ref b], below, meth, c, Y, hp0) (mi_L_law meth.name) ∧ LwX (p, l, e, room_1, s, m, #[Value.ref b], below, meth, c, Y, hp0) L xs := by
  obtain ⟨hx, hb, hr, hml, hown, hts, hXs, hbl, hlk, hgv⟩ := C0
  have hfl := flat_of_before _ hgv
  have hnar : ∀ w ∈ flatC narrow_1, w.before #[Value.ref b] s = true := fun w hw => hfl w (List.mem_append_right _ hw)
  obtain ⟨D, hD⟩ := st_classes hts
  obtain ⟨a0, ha0⟩ := st_arr (ty := .int) (fun C h => by cases h) (hts _ (lw_all_tbl q168))
  obtain ⟨a1, ha1⟩ := st_arr (ty := .byte) (fun C h => by cases h) (hts _ (lw_all_tbl q471))
  obtain ⟨a2, ha2⟩ := st_arr (ty := .boolean) (fun C h => by cases h) (hts _ (lw_all_tbl q1210))
  obtain ⟨a3, ha3⟩ := st_arr (ty := .long) (fun C h => by cases h) (hts _ (lw_all_tbl q337))
  obtain ⟨a4, ha4⟩ := st_arrO (hts _ q169)
  have hA : ∀ a : Nat, a < s.heap.size → ¬ s.heap.size ≤ a := fun a h => Nat.not_le.mpr h
  obtain ⟨adK, adV, hVS, hVE⟩ := vk_Sof (N := 8) (tm := strT) (len := strLen) (byt := strByt) (A := fun q => s.heap.size ≤ q) st_len (fun i hi => hnar _ (fl_1 i hi)) (fun i hi => hnar _ (fl_2 i hi)) (fun i hi => hnar _ (fl_3 i hi)) (fun i hi => hnar _ (fl_4 i hi)) (fun i hi j hj => hnar _ (fl_5 i hi j hj))
    (fun i j hi hj hij => by
      rcases fl_6 i hi j hj with h | h | h
      · exact absurd h hij
      · exact Or.inl (hnar _ h)
      · exact Or.inr (hnar _ h)) hA
  have hsk : ∀ k, k < 8 → (if k < 8 then adK k else if k < 16 then adV (k - 8) else b) = adK k := fun k hk => if_pos hk
  have hsv : ∀ k, k < 8 → (if 8 + k < 8 then adK (8 + k) else if 8 + k < 16 then adV (8 + k - 8) else b) = adV k := fun k hk => by
    rw [if_neg (by omega), if_pos (by omega), Nat.add_sub_cancel_left]
  refine ⟨(s.heap.size, D, fun k => if k < 8 then adK k else if k < 16 then adV (k - 8) else b, fun k => match k with | 0 => a0 | 1 => a1 | 2 => a2 | 3 => a3 | _ => a4), rfl, rfl, ⟨hx, hb, hml, hown, fun w hw => hts w (lw_all_tbl hw), ⟨⟨hD, ?_⟩, fun w hw => va_Nw.of rfl (hts _ (nwF_tbl w hw)), fun w hw => va_Nw.of rfl (hts _ (nwM_tbl w hw)), va_AO.of (hts _ q169), fun w hw => va_Nw.of rfl (hts _ (nwD_tbl w hw)), ⟨fun i hi => ?_, fun i j hi hj h => ?_⟩, fun k hk => ?_, va_Zof (hts _ q386) (hts _ (lw_all_tbl q111)) (va_eqi (hnar _ fl_7)) hA, va_Nw.of rfl (hts _ q979), vx_Zqof (hts _ q1004) (hts _ (lw_all_tbl q121)) (hnar _ fl_8) hA, vx_Zqof (hts _ q1006) (hts _ (lw_all_tbl q121)) (hnar _ fl_9) hA⟩, rfl, Nat.le_of_ble_eq_true rfl, Nat.le_of_ble_eq_true rfl, hlk, hr, rfl, hflags⟩, hXs, hbl, Nat.not_le.mpr hbl⟩
  · intro k q hq
    match k, hq with
    | 0, hq => cases hq; exact ha0
    | 1, hq => cases hq; exact ha1
    | 2, hq => cases hq; exact ha2
    | 3, hq => cases hq; exact ha3
    | 4, hq => cases hq; exact ha4
    | k + 5, hq => simp at hq
  · have h := hVS.1 i hi
    dsimp only [xY]
    rw [hsk i hi, hsv i hi]
    exact h
  · dsimp only [xY] at h
    rw [hsk i hi, hsk j hj] at h
    exact hVS.2 i j hi hj h
  · dsimp only [xY]
    rw [hsk k hk]
    exact vk_R.of (A := #[Value.ref b]) (hts _ (st_strR k hk)) (hVE k hk)
/-- the machine's side of the claim out of the pure law -/
theorem st_walk {p : Program} {e : Env} {s : State} {m : MethodId} {below : List Frame} {meth : Method} {c : Code} (l : Launch) (hflags : l.flags = flags0) {b L : Nat} {xs : Nat → Int32} (C0 : lw_At p s m meth c b L xs) {σf : Hp} (ho : f_L_law L xs hp0 = some (1, σf)) (h1 : hn σf ≤ room_1.cells) (h2 : hu σf ≤ room_1.slots) :
    W p l e room_1 s m #[Value.ref b] below meth c s.heap [] 0 0 (lw_Z below #[Value.ref b] s) (entryFrame m ([Value.ref b] : List Value).toArray 8) := by
  obtain ⟨Y, hz, h16, hX, hw⟩ := st_all (e := e) (below := below) l hflags C0
  obtain ⟨-, g⟩ := gg_L_law (p, l, e, room_1, s, m, #[Value.ref b], below, meth, c, Y, hp0) L xs hw b rfl rfl hz.symm ⟨rfl, rfl⟩ meth.name hp0 1 σf ho
  have hent := lv_entry ([vS 16].map (cv Y)) (n := 8) (Nat.le_of_ble_eq_true rfl)
  rw [lvE_map] at hent
  have e1 : ([vS 16].map (cv Y)) = [Value.ref b] := by
    show [Value.ref (Y.2.2.1 16)] = _
    rw [h16]
  rw [e1] at hent
  rw [lg_entry_eq]
  refine g hX _ s.heap [] Le.rfl' (Nat.le_trans h1 (Nat.le_add_left _ _)) (Nat.le_trans h2 (Nat.le_add_left _ _)) hent ⟨by show _ = Y.1 + 0; rw [hz]; rfl, fun a ha => absurd ha (Nat.not_lt_zero _)⟩ va_S.rf
