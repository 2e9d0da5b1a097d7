/-! FOUNDATION 3: rows that leave the heap alone -/
def ush (x y : Int32) : Int32 := (x.toUInt32 >>> (y.toUInt32 &&& Int32.toUInt32 31)).toInt32
def i2b (x : Int32) : Int32 := x.toInt8.toInt32
def i2s (x : Int32) : Int32 := x.toInt16.toInt32
def i2c (x : Int32) : Int32 := (x.toUInt32 % 65536).toInt32
def irm (x y : Int32) : Int32 := x - x / y * y
def lrm (x y : Int64) : Int64 := x - x / y * y
def shl (x y : Int32) : Int32 := x <<< (y &&& 31)
def shr (x y : Int32) : Int32 := x >>> (y &&& 31)
section rows
variable {β : Type} {X : Mx} {M : Mi} {pc : Nat} {Q : β → Hp → State → Prop} {env : List (Nat × LV)} {st : List LV} {σ : Hp} {o : Option (β × Hp)}
theorem g_iadd {x y : Int32} (hd : decode M.1 pc = .ok (.iadd, 1)) (k : GG X M Q (pc + 1) env (vI (x + y) :: st) σ o) : GG X M Q pc env (vI y :: vI x :: st) σ o :=
  fun r σf ho => ⟨(k r σf ho).1, fun hX ls H locs h0 hc hs hl hW hS => lv_iadd hX.ex hX.co hd ((k r σf ho).2 hX ls H locs h0 hc hs hl hW hS)⟩
theorem g_isub {x y : Int32} (hd : decode M.1 pc = .ok (.isub, 1)) (k : GG X M Q (pc + 1) env (vI (x - y) :: st) σ o) : GG X M Q pc env (vI y :: vI x :: st) σ o :=
  fun r σf ho => ⟨(k r σf ho).1, fun hX ls H locs h0 hc hs hl hW hS => lv_isub hX.ex hX.co hd ((k r σf ho).2 hX ls H locs h0 hc hs hl hW hS)⟩
theorem g_imul {x y : Int32} (hd : decode M.1 pc = .ok (.imul, 1)) (k : GG X M Q (pc + 1) env (vI (x * y) :: st) σ o) : GG X M Q pc env (vI y :: vI x :: st) σ o :=
  fun r σf ho => ⟨(k r σf ho).1, fun hX ls H locs h0 hc hs hl hW hS => lv_imul hX.ex hX.co hd ((k r σf ho).2 hX ls H locs h0 hc hs hl hW hS)⟩
theorem g_iand {x y : Int32} (hd : decode M.1 pc = .ok (.iand, 1)) (k : GG X M Q (pc + 1) env (vI (x &&& y) :: st) σ o) : GG X M Q pc env (vI y :: vI x :: st) σ o :=
  fun r σf ho => ⟨(k r σf ho).1, fun hX ls H locs h0 hc hs hl hW hS => lv_iand hX.ex hX.co hd ((k r σf ho).2 hX ls H locs h0 hc hs hl hW hS)⟩
theorem g_ior {x y : Int32} (hd : decode M.1 pc = .ok (.ior, 1)) (k : GG X M Q (pc + 1) env (vI (x ||| y) :: st) σ o) : GG X M Q pc env (vI y :: vI x :: st) σ o :=
  fun r σf ho => ⟨(k r σf ho).1, fun hX ls H locs h0 hc hs hl hW hS => lv_ior hX.ex hX.co hd ((k r σf ho).2 hX ls H locs h0 hc hs hl hW hS)⟩
theorem g_ixor {x y : Int32} (hd : decode M.1 pc = .ok (.ixor, 1)) (k : GG X M Q (pc + 1) env (vI (x ^^^ y) :: st) σ o) : GG X M Q pc env (vI y :: vI x :: st) σ o :=
  fun r σf ho => ⟨(k r σf ho).1, fun hX ls H locs h0 hc hs hl hW hS => lv_ixor hX.ex hX.co hd ((k r σf ho).2 hX ls H locs h0 hc hs hl hW hS)⟩
theorem g_ishl {x y : Int32} (hd : decode M.1 pc = .ok (.ishl, 1)) (k : GG X M Q (pc + 1) env (vI (shl x y) :: st) σ o) : GG X M Q pc env (vI y :: vI x :: st) σ o :=
  fun r σf ho => ⟨(k r σf ho).1, fun hX ls H locs h0 hc hs hl hW hS => lv_ishl hX.ex hX.co hd ((k r σf ho).2 hX ls H locs h0 hc hs hl hW hS)⟩
theorem g_ishr {x y : Int32} (hd : decode M.1 pc = .ok (.ishr, 1)) (k : GG X M Q (pc + 1) env (vI (shr x y) :: st) σ o) : GG X M Q pc env (vI y :: vI x :: st) σ o :=
  fun r σf ho => ⟨(k r σf ho).1, fun hX ls H locs h0 hc hs hl hW hS => lv_ishr hX.ex hX.co hd ((k r σf ho).2 hX ls H locs h0 hc hs hl hW hS)⟩
theorem g_iushr {x y : Int32} (hd : decode M.1 pc = .ok (.iushr, 1)) (k : GG X M Q (pc + 1) env (vI (ush x y) :: st) σ o) : GG X M Q pc env (vI y :: vI x :: st) σ o :=
  fun r σf ho => ⟨(k r σf ho).1, fun hX ls H locs h0 hc hs hl hW hS => lv_iushr hX.ex hX.co hd rfl ((k r σf ho).2 hX ls H locs h0 hc hs hl hW hS)⟩
theorem g_ineg {x : Int32} (hd : decode M.1 pc = .ok (.ineg, 1)) (k : GG X M Q (pc + 1) env (vI (-x) :: st) σ o) : GG X M Q pc env (vI x :: st) σ o :=
  fun r σf ho => ⟨(k r σf ho).1, fun hX ls H locs h0 hc hs hl hW hS => lv_ineg hX.ex hX.co hd ((k r σf ho).2 hX ls H locs h0 hc hs hl hW hS)⟩
theorem g_i2b {x : Int32} (hd : decode M.1 pc = .ok (.i2b, 1)) (k : GG X M Q (pc + 1) env (vI (i2b x) :: st) σ o) : GG X M Q pc env (vI x :: st) σ o :=
  fun r σf ho => ⟨(k r σf ho).1, fun hX ls H locs h0 hc hs hl hW hS => lv_i2b hX.ex hX.co hd rfl ((k r σf ho).2 hX ls H locs h0 hc hs hl hW hS)⟩
theorem g_i2s {x : Int32} (hd : decode M.1 pc = .ok (.i2s, 1)) (k : GG X M Q (pc + 1) env (vI (i2s x) :: st) σ o) : GG X M Q pc env (vI x :: st) σ o :=
  fun r σf ho => ⟨(k r σf ho).1, fun hX ls H locs h0 hc hs hl hW hS => lv_i2s hX.ex hX.co hd rfl ((k r σf ho).2 hX ls H locs h0 hc hs hl hW hS)⟩
theorem g_i2c {x : Int32} (hd : decode M.1 pc = .ok (.i2c, 1)) (k : GG X M Q (pc + 1) env (vI (i2c x) :: st) σ o) : GG X M Q pc env (vI x :: st) σ o :=
  fun r σf ho => ⟨(k r σf ho).1, fun hX ls H locs h0 hc hs hl hW hS => lv_i2c hX.ex hX.co hd rfl ((k r σf ho).2 hX ls H locs h0 hc hs hl hW hS)⟩
theorem g_i2l {x : Int32} (hd : decode M.1 pc = .ok (.i2l, 1)) (k : GG X M Q (pc + 1) env (vL x.toInt64 :: st) σ o) : GG X M Q pc env (vI x :: st) σ o :=
  fun r σf ho => ⟨(k r σf ho).1, fun hX ls H locs h0 hc hs hl hW hS => lv_i2l hX.ex hX.co hd rfl ((k r σf ho).2 hX ls H locs h0 hc hs hl hW hS)⟩
theorem g_l2i {x : Int64} (hd : decode M.1 pc = .ok (.l2i, 1)) (k : GG X M Q (pc + 1) env (vI x.toInt32 :: st) σ o) : GG X M Q pc env (vL x :: st) σ o :=
  fun r σf ho => ⟨(k r σf ho).1, fun hX ls H locs h0 hc hs hl hW hS => lv_l2i hX.ex hX.co hd rfl ((k r σf ho).2 hX ls H locs h0 hc hs hl hW hS)⟩
theorem g_ladd {x y : Int64} (hd : decode M.1 pc = .ok (.ladd, 1)) (k : GG X M Q (pc + 1) env (vL (x + y) :: st) σ o) : GG X M Q pc env (vL y :: vL x :: st) σ o :=
  fun r σf ho => ⟨(k r σf ho).1, fun hX ls H locs h0 hc hs hl hW hS => lv_ladd hX.ex hX.co hd ((k r σf ho).2 hX ls H locs h0 hc hs hl hW hS)⟩
theorem g_lsub {x y : Int64} (hd : decode M.1 pc = .ok (.lsub, 1)) (k : GG X M Q (pc + 1) env (vL (x - y) :: st) σ o) : GG X M Q pc env (vL y :: vL x :: st) σ o :=
  fun r σf ho => ⟨(k r σf ho).1, fun hX ls H locs h0 hc hs hl hW hS => lv_lsub hX.ex hX.co hd ((k r σf ho).2 hX ls H locs h0 hc hs hl hW hS)⟩
theorem g_lmul {x y : Int64} (hd : decode M.1 pc = .ok (.lmul, 1)) (k : GG X M Q (pc + 1) env (vL (x * y) :: st) σ o) : GG X M Q pc env (vL y :: vL x :: st) σ o :=
  fun r σf ho => ⟨(k r σf ho).1, fun hX ls H locs h0 hc hs hl hW hS => lv_lmul hX.ex hX.co hd ((k r σf ho).2 hX ls H locs h0 hc hs hl hW hS)⟩
theorem g_lcmp {x y : Int64} (hd : decode M.1 pc = .ok (.lcmp, 1)) (k : GG X M Q (pc + 1) env (vI (lg_cmp x y) :: st) σ o) : GG X M Q pc env (vL y :: vL x :: st) σ o :=
  fun r σf ho => ⟨(k r σf ho).1, fun hX ls H locs h0 hc hs hl hW hS => W.lcmp hX.ex hX.co hd ((k r σf ho).2 hX ls H locs h0 hc hs hl hW hS)⟩
theorem g_dup {v : LV} (hd : decode M.1 pc = .ok (.dup, 1)) (hv : lvw v = 1) (k : GG X M Q (pc + 1) env (v :: v :: st) σ o) : GG X M Q pc env (v :: st) σ o :=
  fun r σf ho => ⟨(k r σf ho).1, fun hX ls H locs h0 hc hs hl hW hS => lv_dup hX.ex hX.co hd (by rw [cv_cat]; exact hv) ((k r σf ho).2 hX ls H locs h0 hc hs hl hW hS)⟩
theorem g_pop {v : LV} (hd : decode M.1 pc = .ok (.pop, 1)) (hv : lvw v = 1) (k : GG X M Q (pc + 1) env (st) σ o) : GG X M Q pc env (v :: st) σ o :=
  fun r σf ho => ⟨(k r σf ho).1, fun hX ls H locs h0 hc hs hl hW hS => lv_pop hX.ex hX.co hd (by rw [cv_cat]; exact hv) ((k r σf ho).2 hX ls H locs h0 hc hs hl hW hS)⟩
theorem g_dup_x1 {v w : LV} (hd : decode M.1 pc = .ok (.dup_x1, 1)) (hv : lvw v = 1) (hw : lvw w = 1) (k : GG X M Q (pc + 1) env (v :: w :: v :: st) σ o) : GG X M Q pc env (v :: w :: st) σ o :=
  fun r σf ho => ⟨(k r σf ho).1, fun hX ls H locs h0 hc hs hl hW hS => lv_dup_x1 hX.ex hX.co hd (by rw [cv_cat]; exact hv) (by rw [cv_cat]; exact hw) ((k r σf ho).2 hX ls H locs h0 hc hs hl hW hS)⟩
theorem g_dup2 {v w : LV} (hd : decode M.1 pc = .ok (.dup2, 1)) (hv : lvw v = 1) (hw : lvw w = 1) (k : GG X M Q (pc + 1) env (v :: w :: v :: w :: st) σ o) : GG X M Q pc env (v :: w :: st) σ o :=
  fun r σf ho => ⟨(k r σf ho).1, fun hX ls H locs h0 hc hs hl hW hS => lv_dup2_11 hX.ex hX.co hd (by rw [cv_cat]; exact hv) (by rw [cv_cat]; exact hw) ((k r σf ho).2 hX ls H locs h0 hc hs hl hW hS)⟩
theorem g_iconst {n : Int} (v : Int32) (hd : decode M.1 pc = .ok (.iconst n, 1)) (hv : Int32.ofInt n = v) (k : GG X M Q (pc + 1) env (vI v :: st) σ o) : GG X M Q pc env (st) σ o :=
  fun r σf ho => ⟨(k r σf ho).1, fun hX ls H locs h0 hc hs hl hW hS => lv_iconst hX.ex hX.co hd hv ((k r σf ho).2 hX ls H locs h0 hc hs hl hW hS)⟩
theorem g_bipush {n : Int} (v : Int32) (hd : decode M.1 pc = .ok (.bipush n, 2)) (hv : (Int8.ofInt n).toInt32 = v) (k : GG X M Q (pc + 2) env (vI v :: st) σ o) : GG X M Q pc env (st) σ o :=
  fun r σf ho => ⟨(k r σf ho).1, fun hX ls H locs h0 hc hs hl hW hS => lv_bipush hX.ex hX.co hd hv ((k r σf ho).2 hX ls H locs h0 hc hs hl hW hS)⟩
theorem g_sipush {n : Int} (v : Int32) (hd : decode M.1 pc = .ok (.sipush n, 3)) (hv : (Int16.ofInt n).toInt32 = v) (k : GG X M Q (pc + 3) env (vI v :: st) σ o) : GG X M Q pc env (st) σ o :=
  fun r σf ho => ⟨(k r σf ho).1, fun hX ls H locs h0 hc hs hl hW hS => lv_sipush hX.ex hX.co hd hv ((k r σf ho).2 hX ls H locs h0 hc hs hl hW hS)⟩
theorem g_lconst {n : Fin 2} (v : Int64) (hd : decode M.1 pc = .ok (.lconst n, 1)) (hv : Int64.ofNat (n : Nat) = v) (k : GG X M Q (pc + 1) env (vL v :: st) σ o) : GG X M Q pc env (st) σ o :=
  fun r σf ho => ⟨(k r σf ho).1, fun hX ls H locs h0 hc hs hl hW hS => lv_lconst hX.ex hX.co hd hv ((k r σf ho).2 hX ls H locs h0 hc hs hl hW hS)⟩
theorem g_ldc {index : Nat} {v : Int32} (hd : decode M.1 pc = .ok (.ldc index, 2)) (hq : Cond.constant M.2.2.1 index v ∈ lw_all) (k : GG X M Q (pc + 2) env (vI v :: st) σ o) : GG X M Q pc env (st) σ o :=
  fun r σf ho => ⟨(k r σf ho).1, fun hX ls H locs h0 hc hs hl hW hS => lv_ldc hX.ex hX.co hX.ow (hX.ts _ hq) hd ((k r σf ho).2 hX ls H locs h0 hc hs hl hW hS)⟩
theorem g_ldc_w {index : Nat} {v : Int32} (hd : decode M.1 pc = .ok (.ldc_w index, 3)) (hq : Cond.constant M.2.2.1 index v ∈ lw_all) (k : GG X M Q (pc + 3) env (vI v :: st) σ o) : GG X M Q pc env (st) σ o :=
  fun r σf ho => ⟨(k r σf ho).1, fun hX ls H locs h0 hc hs hl hW hS => lv_ldcw hX.ex hX.co hX.ow (hX.ts _ hq) hd ((k r σf ho).2 hX ls H locs h0 hc hs hl hW hS)⟩
theorem g_ldc2_w {index : Nat} {v : Int64} (hd : decode M.1 pc = .ok (.ldc2_w index, 3)) (hq : Cond.constantLong M.2.2.1 index v ∈ lw_all) (k : GG X M Q (pc + 3) env (vL v :: st) σ o) : GG X M Q pc env (st) σ o :=
  fun r σf ho => ⟨(k r σf ho).1, fun hX ls H locs h0 hc hs hl hW hS => lv_ldc2 hX.ex hX.co hX.ow (hX.ts _ hq) hd ((k r σf ho).2 hX ls H locs h0 hc hs hl hW hS)⟩
theorem g_aconst_null  (hd : decode M.1 pc = .ok (.aconst_null, 1)) (k : GG X M Q (pc + 1) env (vA none :: st) σ o) : GG X M Q pc env (st) σ o :=
  fun r σf ho => ⟨(k r σf ho).1, fun hX ls H locs h0 hc hs hl hW hS => lv_null hX.ex hX.co hd ((k r σf ho).2 hX ls H locs h0 hc hs hl hW hS)⟩
theorem g_iload {i : Nat} {x : Int32} (hd : decode M.1 pc = .ok (.iload i, 2)) (hk : List.lookup i env = some (vI x)) (k : GG X M Q (pc + 2) env (vI x :: st) σ o) : GG X M Q pc env (st) σ o :=
  fun r σf ho => ⟨(k r σf ho).1, fun hX ls H locs h0 hc hs hl hW hS => lv_iload hX.ex hX.co hd (env_at hl hk) ((k r σf ho).2 hX ls H locs h0 hc hs hl hW hS)⟩
theorem g_iload_n {j : Fin 4} (i : Nat) {x : Int32} (hd : decode M.1 pc = .ok (.iload_n j, 1)) (hj : (j : Nat) = i) (hk : List.lookup i env = some (vI x)) (k : GG X M Q (pc + 1) env (vI x :: st) σ o) : GG X M Q pc env (st) σ o :=
  fun r σf ho => ⟨(k r σf ho).1, fun hX ls H locs h0 hc hs hl hW hS => lv_iload_n hX.ex hX.co hd hj (env_at hl hk) ((k r σf ho).2 hX ls H locs h0 hc hs hl hW hS)⟩
theorem g_lload {i : Nat} {x : Int64} (hd : decode M.1 pc = .ok (.lload i, 2)) (hk : List.lookup i env = some (vL x)) (k : GG X M Q (pc + 2) env (vL x :: st) σ o) : GG X M Q pc env (st) σ o :=
  fun r σf ho => ⟨(k r σf ho).1, fun hX ls H locs h0 hc hs hl hW hS => lv_lload hX.ex hX.co hd (env_at hl hk) ((k r σf ho).2 hX ls H locs h0 hc hs hl hW hS)⟩
theorem g_lload_n {j : Fin 4} (i : Nat) {x : Int64} (hd : decode M.1 pc = .ok (.lload_n j, 1)) (hj : (j : Nat) = i) (hk : List.lookup i env = some (vL x)) (k : GG X M Q (pc + 1) env (vL x :: st) σ o) : GG X M Q pc env (st) σ o :=
  fun r σf ho => ⟨(k r σf ho).1, fun hX ls H locs h0 hc hs hl hW hS => lv_lload_n hX.ex hX.co hd hj (env_at hl hk) ((k r σf ho).2 hX ls H locs h0 hc hs hl hW hS)⟩
theorem g_aload {i : Nat} {x : Option Nat} (hd : decode M.1 pc = .ok (.aload i, 2)) (hk : List.lookup i env = some (vA x)) (k : GG X M Q (pc + 2) env (vA x :: st) σ o) : GG X M Q pc env st σ o := by
  intro r σf ho
  refine ⟨(k r σf ho).1, fun hX ls H locs h0 hc hs hl hW hS => ?_⟩
  have g := (k r σf ho).2 hX ls H locs h0 hc hs hl hW hS
  have he := env_at hl hk
  cases x with
  | none => exact lv_aloadN hX.ex hX.co hd he g
  | some b => exact lv_aload hX.ex hX.co hd he g
theorem g_aloadS {i : Nat} {x : Nat} (hd : decode M.1 pc = .ok (.aload i, 2)) (hk : List.lookup i env = some (vS x)) (k : GG X M Q (pc + 2) env (vS x :: st) σ o) : GG X M Q pc env st σ o :=
  fun r σf ho => ⟨(k r σf ho).1, fun hX ls H locs h0 hc hs hl hW hS => lv_aload hX.ex hX.co hd (env_at hl hk) ((k r σf ho).2 hX ls H locs h0 hc hs hl hW hS)⟩
theorem g_aload_n {j : Fin 4} (i : Nat) {x : Option Nat} (hd : decode M.1 pc = .ok (.aload_n j, 1)) (hj : (j : Nat) = i) (hk : List.lookup i env = some (vA x)) (k : GG X M Q (pc + 1) env (vA x :: st) σ o) : GG X M Q pc env st σ o := by
  intro r σf ho
  refine ⟨(k r σf ho).1, fun hX ls H locs h0 hc hs hl hW hS => ?_⟩
  have g := (k r σf ho).2 hX ls H locs h0 hc hs hl hW hS
  have he := env_at hl hk
  cases x with
  | none => exact lv_aload_nN hX.ex hX.co hd hj he g
  | some b => exact lv_aload_n hX.ex hX.co hd hj he g
theorem g_aload_nS {j : Fin 4} (i : Nat) {x : Nat} (hd : decode M.1 pc = .ok (.aload_n j, 1)) (hj : (j : Nat) = i) (hk : List.lookup i env = some (vS x)) (k : GG X M Q (pc + 1) env (vS x :: st) σ o) : GG X M Q pc env st σ o :=
  fun r σf ho => ⟨(k r σf ho).1, fun hX ls H locs h0 hc hs hl hW hS => lv_aload_n hX.ex hX.co hd hj (env_at hl hk) ((k r σf ho).2 hX ls H locs h0 hc hs hl hW hS)⟩
theorem g_istore {i : Nat} {x : Int32} (hd : decode M.1 pc = .ok (.istore i, 2)) (hi : i < M.2.1) (k : GG X M Q (pc + 2) (setE env i (vI x)) st σ o) : GG X M Q pc env (vI x :: st) σ o :=
  fun r σf ho => ⟨(k r σf ho).1, fun hX ls H locs h0 hc hs hl hW hS => lv_istore hX.ex hX.co hd hl hi (setE_map (xY X) env i (vI x)) (fun ls2 hl2 => (k r σf ho).2 hX ls2 H locs h0 hc hs hl2 hW hS)⟩
theorem g_istore_n {j : Fin 4} (i : Nat) {x : Int32} (hd : decode M.1 pc = .ok (.istore_n j, 1)) (hj : (j : Nat) = i) (hi : i < M.2.1) (k : GG X M Q (pc + 1) (setE env i (vI x)) st σ o) : GG X M Q pc env (vI x :: st) σ o :=
  fun r σf ho => ⟨(k r σf ho).1, fun hX ls H locs h0 hc hs hl hW hS => lv_istore_n hX.ex hX.co hd hj hl hi (setE_map (xY X) env i (vI x)) (fun ls2 hl2 => (k r σf ho).2 hX ls2 H locs h0 hc hs hl2 hW hS)⟩
theorem g_lstore {i : Nat} {x : Int64} (hd : decode M.1 pc = .ok (.lstore i, 2)) (hi : i + 1 < M.2.1) (k : GG X M Q (pc + 2) (setE2 env i (vL x)) st σ o) : GG X M Q pc env (vL x :: st) σ o :=
  fun r σf ho => ⟨(k r σf ho).1, fun hX ls H locs h0 hc hs hl hW hS => lv_lstore hX.ex hX.co hd hl hi (setE2_map (xY X) env i (vL x)) (fun ls2 hl2 => (k r σf ho).2 hX ls2 H locs h0 hc hs hl2 hW hS)⟩
theorem g_lstore_n {j : Fin 4} (i : Nat) {x : Int64} (hd : decode M.1 pc = .ok (.lstore_n j, 1)) (hj : (j : Nat) = i) (hi : i + 1 < M.2.1) (k : GG X M Q (pc + 1) (setE2 env i (vL x)) st σ o) : GG X M Q pc env (vL x :: st) σ o :=
  fun r σf ho => ⟨(k r σf ho).1, fun hX ls H locs h0 hc hs hl hW hS => lv_lstore_n hX.ex hX.co hd hj hl hi (setE2_map (xY X) env i (vL x)) (fun ls2 hl2 => (k r σf ho).2 hX ls2 H locs h0 hc hs hl2 hW hS)⟩
theorem g_astore {i : Nat} {x : Option Nat} (hd : decode M.1 pc = .ok (.astore i, 2)) (hi : i < M.2.1) (k : GG X M Q (pc + 2) (setE env i (vA x)) st σ o) : GG X M Q pc env (vA x :: st) σ o := by
  intro r σf ho
  refine ⟨(k r σf ho).1, fun hX ls H locs h0 hc hs hl hW hS => ?_⟩
  cases x with
  | none => exact lv_astoreN hX.ex hX.co hd hl hi (setE_map (xY X) env i (vA none)) (fun ls2 hl2 => (k r σf ho).2 hX ls2 H locs h0 hc hs hl2 hW hS)
  | some b => exact lv_astore hX.ex hX.co hd hl hi (setE_map (xY X) env i (vA (some b))) (fun ls2 hl2 => (k r σf ho).2 hX ls2 H locs h0 hc hs hl2 hW hS)
theorem g_astore_n {j : Fin 4} (i : Nat) {x : Option Nat} (hd : decode M.1 pc = .ok (.astore_n j, 1)) (hj : (j : Nat) = i) (hi : i < M.2.1) (k : GG X M Q (pc + 1) (setE env i (vA x)) st σ o) : GG X M Q pc env (vA x :: st) σ o := by
  intro r σf ho
  refine ⟨(k r σf ho).1, fun hX ls H locs h0 hc hs hl hW hS => ?_⟩
  cases x with
  | none => exact lv_astore_nN hX.ex hX.co hd hj hl hi (setE_map (xY X) env i (vA none)) (fun ls2 hl2 => (k r σf ho).2 hX ls2 H locs h0 hc hs hl2 hW hS)
  | some b => exact lv_astore_n hX.ex hX.co hd hj hl hi (setE_map (xY X) env i (vA (some b))) (fun ls2 hl2 => (k r σf ho).2 hX ls2 H locs h0 hc hs hl2 hW hS)
theorem cve_at {Y : Yx} {env : List (Nat × LV)} {i : Nat} {v : LV} (h : List.lookup i env = some v) : ∃ k : Nat, (env.map (cve Y))[k]? = some (i, cv Y v) := by
  obtain ⟨k, hk⟩ := List.getElem?_of_mem (lookup_mem h)
  exact ⟨k, by rw [List.getElem?_map, hk]; rfl⟩
theorem g_iinc {i : Nat} {n : Int} (m : Int32) {x : Int32} (hd : decode M.1 pc = .ok (.iinc i n, 3)) (hm : Int32.ofInt n = m) (hk : List.lookup i env = some (vI x)) (hi : i < M.2.1) (k : GG X M Q (pc + 3) (setE env i (vI (x + m))) st σ o) : GG X M Q pc env st σ o := by
  subst hm
  intro r σf ho
  refine ⟨(k r σf ho).1, fun hX ls H locs h0 hc hs hl hW hS => ?_⟩
  obtain ⟨j, hj⟩ := cve_at (Y := xY X) hk
  exact lv_iinc hX.ex hX.co hd hl hj rfl hi (setE_map (xY X) env i (vI (x + Int32.ofInt n))) (fun ls2 hl2 => (k r σf ho).2 hX ls2 H locs h0 hc hs hl2 hW hS)
theorem g_icmp_eq {x y : Int32} {off : Int} (tgt : Nat) {a b : Option (β × Hp)} (hd : decode M.1 pc = .ok (.if_icmp .eq off, 3)) (ht : (pc : Int) + off = (tgt : Int)) (kt : GG X M Q tgt env st σ a) (kf : GG X M Q (pc + 3) env st σ b) : GG X M Q pc env (vI y :: vI x :: st) σ (if x = y then a else b) := by
  intro r σf ho
  by_cases hp : x = y
  · rw [if_pos hp] at ho
    obtain ⟨g1, g2⟩ := kt r σf ho
    exact ⟨g1, fun hX ls H locs h0 hc hs hl hW hS => lv_icmp_eq hX.ex hX.co hd ht (fun q => g2 hX ls H locs h0 hc hs hl hW hS) (fun q => absurd hp q)⟩
  · rw [if_neg hp] at ho
    obtain ⟨g1, g2⟩ := kf r σf ho
    exact ⟨g1, fun hX ls H locs h0 hc hs hl hW hS => lv_icmp_eq hX.ex hX.co hd ht (fun q => absurd q hp) (fun q => g2 hX ls H locs h0 hc hs hl hW hS)⟩
theorem g_if_eq {x : Int32} {off : Int} (tgt : Nat) {a b : Option (β × Hp)} (hd : decode M.1 pc = .ok (.ifCond .eq off, 3)) (ht : (pc : Int) + off = (tgt : Int)) (kt : GG X M Q tgt env st σ a) (kf : GG X M Q (pc + 3) env st σ b) : GG X M Q pc env (vI x :: st) σ (if x = 0 then a else b) := by
  intro r σf ho
  by_cases hp : x = 0
  · rw [if_pos hp] at ho
    obtain ⟨g1, g2⟩ := kt r σf ho
    exact ⟨g1, fun hX ls H locs h0 hc hs hl hW hS => lv_if_eq hX.ex hX.co hd ht (fun q => g2 hX ls H locs h0 hc hs hl hW hS) (fun q => absurd hp q)⟩
  · rw [if_neg hp] at ho
    obtain ⟨g1, g2⟩ := kf r σf ho
    exact ⟨g1, fun hX ls H locs h0 hc hs hl hW hS => lv_if_eq hX.ex hX.co hd ht (fun q => absurd q hp) (fun q => g2 hX ls H locs h0 hc hs hl hW hS)⟩
theorem g_icmp_ne {x y : Int32} {off : Int} (tgt : Nat) {a b : Option (β × Hp)} (hd : decode M.1 pc = .ok (.if_icmp .ne off, 3)) (ht : (pc : Int) + off = (tgt : Int)) (kt : GG X M Q tgt env st σ a) (kf : GG X M Q (pc + 3) env st σ b) : GG X M Q pc env (vI y :: vI x :: st) σ (if x = y then b else a) := by
  intro r σf ho
  by_cases hp : x = y
  · rw [if_pos hp] at ho
    obtain ⟨g1, g2⟩ := kf r σf ho
    exact ⟨g1, fun hX ls H locs h0 hc hs hl hW hS => lv_icmp_ne hX.ex hX.co hd ht (fun q => absurd hp q) (fun q => g2 hX ls H locs h0 hc hs hl hW hS)⟩
  · rw [if_neg hp] at ho
    obtain ⟨g1, g2⟩ := kt r σf ho
    exact ⟨g1, fun hX ls H locs h0 hc hs hl hW hS => lv_icmp_ne hX.ex hX.co hd ht (fun q => g2 hX ls H locs h0 hc hs hl hW hS) (fun q => absurd q hp)⟩
theorem g_if_ne {x : Int32} {off : Int} (tgt : Nat) {a b : Option (β × Hp)} (hd : decode M.1 pc = .ok (.ifCond .ne off, 3)) (ht : (pc : Int) + off = (tgt : Int)) (kt : GG X M Q tgt env st σ a) (kf : GG X M Q (pc + 3) env st σ b) : GG X M Q pc env (vI x :: st) σ (if x = 0 then b else a) := by
  intro r σf ho
  by_cases hp : x = 0
  · rw [if_pos hp] at ho
    obtain ⟨g1, g2⟩ := kf r σf ho
    exact ⟨g1, fun hX ls H locs h0 hc hs hl hW hS => lv_if_ne hX.ex hX.co hd ht (fun q => absurd hp q) (fun q => g2 hX ls H locs h0 hc hs hl hW hS)⟩
  · rw [if_neg hp] at ho
    obtain ⟨g1, g2⟩ := kt r σf ho
    exact ⟨g1, fun hX ls H locs h0 hc hs hl hW hS => lv_if_ne hX.ex hX.co hd ht (fun q => g2 hX ls H locs h0 hc hs hl hW hS) (fun q => absurd q hp)⟩
theorem g_icmp_lt {x y : Int32} {off : Int} (tgt : Nat) {a b : Option (β × Hp)} (hd : decode M.1 pc = .ok (.if_icmp .lt off, 3)) (ht : (pc : Int) + off = (tgt : Int)) (kt : GG X M Q tgt env st σ a) (kf : GG X M Q (pc + 3) env st σ b) : GG X M Q pc env (vI y :: vI x :: st) σ (if x < y then a else b) := by
  intro r σf ho
  by_cases hp : x < y
  · rw [if_pos hp] at ho
    obtain ⟨g1, g2⟩ := kt r σf ho
    exact ⟨g1, fun hX ls H locs h0 hc hs hl hW hS => lv_icmp_lt hX.ex hX.co hd ht (fun q => g2 hX ls H locs h0 hc hs hl hW hS) (fun q => absurd hp q)⟩
  · rw [if_neg hp] at ho
    obtain ⟨g1, g2⟩ := kf r σf ho
    exact ⟨g1, fun hX ls H locs h0 hc hs hl hW hS => lv_icmp_lt hX.ex hX.co hd ht (fun q => absurd q hp) (fun q => g2 hX ls H locs h0 hc hs hl hW hS)⟩
theorem g_if_lt {x : Int32} {off : Int} (tgt : Nat) {a b : Option (β × Hp)} (hd : decode M.1 pc = .ok (.ifCond .lt off, 3)) (ht : (pc : Int) + off = (tgt : Int)) (kt : GG X M Q tgt env st σ a) (kf : GG X M Q (pc + 3) env st σ b) : GG X M Q pc env (vI x :: st) σ (if x < 0 then a else b) := by
  intro r σf ho
  by_cases hp : x < 0
  · rw [if_pos hp] at ho
    obtain ⟨g1, g2⟩ := kt r σf ho
    exact ⟨g1, fun hX ls H locs h0 hc hs hl hW hS => lv_if_lt hX.ex hX.co hd ht (fun q => g2 hX ls H locs h0 hc hs hl hW hS) (fun q => absurd hp q)⟩
  · rw [if_neg hp] at ho
    obtain ⟨g1, g2⟩ := kf r σf ho
    exact ⟨g1, fun hX ls H locs h0 hc hs hl hW hS => lv_if_lt hX.ex hX.co hd ht (fun q => absurd q hp) (fun q => g2 hX ls H locs h0 hc hs hl hW hS)⟩
theorem g_icmp_ge {x y : Int32} {off : Int} (tgt : Nat) {a b : Option (β × Hp)} (hd : decode M.1 pc = .ok (.if_icmp .ge off, 3)) (ht : (pc : Int) + off = (tgt : Int)) (kt : GG X M Q tgt env st σ a) (kf : GG X M Q (pc + 3) env st σ b) : GG X M Q pc env (vI y :: vI x :: st) σ (if y ≤ x then a else b) := by
  intro r σf ho
  by_cases hp : y ≤ x
  · rw [if_pos hp] at ho
    obtain ⟨g1, g2⟩ := kt r σf ho
    exact ⟨g1, fun hX ls H locs h0 hc hs hl hW hS => lv_icmp_ge hX.ex hX.co hd ht (fun q => g2 hX ls H locs h0 hc hs hl hW hS) (fun q => absurd hp q)⟩
  · rw [if_neg hp] at ho
    obtain ⟨g1, g2⟩ := kf r σf ho
    exact ⟨g1, fun hX ls H locs h0 hc hs hl hW hS => lv_icmp_ge hX.ex hX.co hd ht (fun q => absurd q hp) (fun q => g2 hX ls H locs h0 hc hs hl hW hS)⟩
theorem g_if_ge {x : Int32} {off : Int} (tgt : Nat) {a b : Option (β × Hp)} (hd : decode M.1 pc = .ok (.ifCond .ge off, 3)) (ht : (pc : Int) + off = (tgt : Int)) (kt : GG X M Q tgt env st σ a) (kf : GG X M Q (pc + 3) env st σ b) : GG X M Q pc env (vI x :: st) σ (if 0 ≤ x then a else b) := by
  intro r σf ho
  by_cases hp : 0 ≤ x
  · rw [if_pos hp] at ho
    obtain ⟨g1, g2⟩ := kt r σf ho
    exact ⟨g1, fun hX ls H locs h0 hc hs hl hW hS => lv_if_ge hX.ex hX.co hd ht (fun q => g2 hX ls H locs h0 hc hs hl hW hS) (fun q => absurd hp q)⟩
  · rw [if_neg hp] at ho
    obtain ⟨g1, g2⟩ := kf r σf ho
    exact ⟨g1, fun hX ls H locs h0 hc hs hl hW hS => lv_if_ge hX.ex hX.co hd ht (fun q => absurd q hp) (fun q => g2 hX ls H locs h0 hc hs hl hW hS)⟩
theorem g_icmp_gt {x y : Int32} {off : Int} (tgt : Nat) {a b : Option (β × Hp)} (hd : decode M.1 pc = .ok (.if_icmp .gt off, 3)) (ht : (pc : Int) + off = (tgt : Int)) (kt : GG X M Q tgt env st σ a) (kf : GG X M Q (pc + 3) env st σ b) : GG X M Q pc env (vI y :: vI x :: st) σ (if y < x then a else b) := by
  intro r σf ho
  by_cases hp : y < x
  · rw [if_pos hp] at ho
    obtain ⟨g1, g2⟩ := kt r σf ho
    exact ⟨g1, fun hX ls H locs h0 hc hs hl hW hS => lv_icmp_gt hX.ex hX.co hd ht (fun q => g2 hX ls H locs h0 hc hs hl hW hS) (fun q => absurd hp q)⟩
  · rw [if_neg hp] at ho
    obtain ⟨g1, g2⟩ := kf r σf ho
    exact ⟨g1, fun hX ls H locs h0 hc hs hl hW hS => lv_icmp_gt hX.ex hX.co hd ht (fun q => absurd q hp) (fun q => g2 hX ls H locs h0 hc hs hl hW hS)⟩
theorem g_if_gt {x : Int32} {off : Int} (tgt : Nat) {a b : Option (β × Hp)} (hd : decode M.1 pc = .ok (.ifCond .gt off, 3)) (ht : (pc : Int) + off = (tgt : Int)) (kt : GG X M Q tgt env st σ a) (kf : GG X M Q (pc + 3) env st σ b) : GG X M Q pc env (vI x :: st) σ (if 0 < x then a else b) := by
  intro r σf ho
  by_cases hp : 0 < x
  · rw [if_pos hp] at ho
    obtain ⟨g1, g2⟩ := kt r σf ho
    exact ⟨g1, fun hX ls H locs h0 hc hs hl hW hS => lv_if_gt hX.ex hX.co hd ht (fun q => g2 hX ls H locs h0 hc hs hl hW hS) (fun q => absurd hp q)⟩
  · rw [if_neg hp] at ho
    obtain ⟨g1, g2⟩ := kf r σf ho
    exact ⟨g1, fun hX ls H locs h0 hc hs hl hW hS => lv_if_gt hX.ex hX.co hd ht (fun q => absurd q hp) (fun q => g2 hX ls H locs h0 hc hs hl hW hS)⟩
theorem g_icmp_le {x y : Int32} {off : Int} (tgt : Nat) {a b : Option (β × Hp)} (hd : decode M.1 pc = .ok (.if_icmp .le off, 3)) (ht : (pc : Int) + off = (tgt : Int)) (kt : GG X M Q tgt env st σ a) (kf : GG X M Q (pc + 3) env st σ b) : GG X M Q pc env (vI y :: vI x :: st) σ (if x ≤ y then a else b) := by
  intro r σf ho
  by_cases hp : x ≤ y
  · rw [if_pos hp] at ho
    obtain ⟨g1, g2⟩ := kt r σf ho
    exact ⟨g1, fun hX ls H locs h0 hc hs hl hW hS => lv_icmp_le hX.ex hX.co hd ht (fun q => g2 hX ls H locs h0 hc hs hl hW hS) (fun q => absurd hp q)⟩
  · rw [if_neg hp] at ho
    obtain ⟨g1, g2⟩ := kf r σf ho
    exact ⟨g1, fun hX ls H locs h0 hc hs hl hW hS => lv_icmp_le hX.ex hX.co hd ht (fun q => absurd q hp) (fun q => g2 hX ls H locs h0 hc hs hl hW hS)⟩
theorem g_if_le {x : Int32} {off : Int} (tgt : Nat) {a b : Option (β × Hp)} (hd : decode M.1 pc = .ok (.ifCond .le off, 3)) (ht : (pc : Int) + off = (tgt : Int)) (kt : GG X M Q tgt env st σ a) (kf : GG X M Q (pc + 3) env st σ b) : GG X M Q pc env (vI x :: st) σ (if x ≤ 0 then a else b) := by
  intro r σf ho
  by_cases hp : x ≤ 0
  · rw [if_pos hp] at ho
    obtain ⟨g1, g2⟩ := kt r σf ho
    exact ⟨g1, fun hX ls H locs h0 hc hs hl hW hS => lv_if_le hX.ex hX.co hd ht (fun q => g2 hX ls H locs h0 hc hs hl hW hS) (fun q => absurd hp q)⟩
  · rw [if_neg hp] at ho
    obtain ⟨g1, g2⟩ := kf r σf ho
    exact ⟨g1, fun hX ls H locs h0 hc hs hl hW hS => lv_if_le hX.ex hX.co hd ht (fun q => absurd q hp) (fun q => g2 hX ls H locs h0 hc hs hl hW hS)⟩
/-- null, or not -/
def nul {α : Type} (o : Option Nat) (a b : α) : α := match o with
  | none => a
  | some _ => b
theorem g_ifnull {x : Option Nat} {off : Int} (tgt : Nat) {a b : Option (β × Hp)} (hd : decode M.1 pc = .ok (.ifnull off, 3)) (ht : (pc : Int) + off = (tgt : Int)) (kt : GG X M Q tgt env st σ a) (kf : GG X M Q (pc + 3) env st σ b) : GG X M Q pc env (vA x :: st) σ (nul x a b) := by
  intro r σf ho
  cases x with
  | none =>
    obtain ⟨g1, g2⟩ := kt r σf ho
    exact ⟨g1, fun hX ls H locs h0 hc hs hl hW hS => lv_ifnullN hX.ex hX.co hd ht (g2 hX ls H locs h0 hc hs hl hW hS)⟩
  | some q =>
    obtain ⟨g1, g2⟩ := kf r σf ho
    exact ⟨g1, fun hX ls H locs h0 hc hs hl hW hS => lv_ifnull hX.ex hX.co hd (g2 hX ls H locs h0 hc hs hl hW hS)⟩
theorem g_ifnonnull {x : Option Nat} {off : Int} (tgt : Nat) {a b : Option (β × Hp)} (hd : decode M.1 pc = .ok (.ifnonnull off, 3)) (ht : (pc : Int) + off = (tgt : Int)) (kt : GG X M Q tgt env st σ a) (kf : GG X M Q (pc + 3) env st σ b) : GG X M Q pc env (vA x :: st) σ (nul x b a) := by
  intro r σf ho
  cases x with
  | none =>
    obtain ⟨g1, g2⟩ := kf r σf ho
    exact ⟨g1, fun hX ls H locs h0 hc hs hl hW hS => lv_ifnonnullN hX.ex hX.co hd (g2 hX ls H locs h0 hc hs hl hW hS)⟩
  | some q =>
    obtain ⟨g1, g2⟩ := kt r σf ho
    exact ⟨g1, fun hX ls H locs h0 hc hs hl hW hS => lv_ifnonnull hX.ex hX.co hd ht (g2 hX ls H locs h0 hc hs hl hW hS)⟩
theorem g_goto {off : Int} (tgt : Nat) (hd : decode M.1 pc = .ok (.goto off, 3)) (ht : (pc : Int) + off = (tgt : Int)) (k : GG X M Q tgt env st σ o) : GG X M Q pc env st σ o :=
  fun r σf ho => ⟨(k r σf ho).1, fun hX ls H locs h0 hc hs hl hW hS => lv_goto hX.ex hX.co hd ht ((k r σf ho).2 hX ls H locs h0 hc hs hl hW hS)⟩
/-- fewer of the locals -/
theorem g_sub {env' : List (Nat × LV)} (hs : env'.map (fun q => List.lookup q.1 env) = env'.map (fun q => some q.2)) (k : GG X M Q pc env' st σ o) : GG X M Q pc env st σ o :=
  fun r σf ho => ⟨(k r σf ho).1, fun hX ls H locs h0 hc hs2 hl hW hS => (k r σf ho).2 hX ls H locs h0 hc hs2 (env_sub hl hs) hW hS⟩
/-- to a place whose start is said -/
theorem g_jmp {env' : List (Nat × LV)} (k : GG X M Q pc env' st σ o) (hs : env'.map (fun q => List.lookup q.1 env) = env'.map (fun q => some q.2)) : GG X M Q pc env st σ o := g_sub hs k
theorem g_case {x c : Int32} {a b : Option (β × Hp)} (kt : x = c → GG X M Q pc env st σ a) (kf : ¬ x = c → GG X M Q pc env st σ b) : GG X M Q pc env st σ (if x = c then a else b) := by
  by_cases h : x = c
  · rw [if_pos h]; exact kt h
  · rw [if_neg h]; exact kf h
theorem g_lookup {dflt : Int} {ps : Array (Int × Int)} {len : Nat} {x : Int32} {off : Int} (tgt : Nat) (hd : decode M.1 pc = .ok (.lookupswitch dflt ps, len)) (hp : (ps.toList.zip (ps.toList.drop 1)).all (fun (a, next) => a.1 < next.1) = true) (ho : Op.lookupswitch.offset ps.toList dflt x.toInt = off) (ht : (pc : Int) + off = (tgt : Int)) (k : GG X M Q tgt env st σ o) : GG X M Q pc env (vI x :: st) σ o :=
  fun r σf h => ⟨(k r σf h).1, fun hX ls H locs h0 hc hs hl hW hS => lv_lookup hX.ex hX.co hd hp ho ht ((k r σf h).2 hX ls H locs h0 hc hs hl hW hS)⟩
theorem g_tableIn {dflt lo hi : Int} {offs : Array Int} {len : Nat} {x : Int32} {off : Int} (tgt : Nat) (hd : decode M.1 pc = .ok (.tableswitch dflt lo hi offs, len)) (h1 : ¬ x.toInt < lo) (h2 : ¬ hi < x.toInt) (ho : offs[(x.toInt - lo).toNat]? = some off) (ht : (pc : Int) + off = (tgt : Int)) (k : GG X M Q tgt env st σ o) : GG X M Q pc env (vI x :: st) σ o :=
  fun r σf h => ⟨(k r σf h).1, fun hX ls H locs h0 hc hs hl hW hS => lv_tableIn hX.ex hX.co hd h1 h2 ho ht ((k r σf h).2 hX ls H locs h0 hc hs hl hW hS)⟩
theorem g_tableOut {dflt lo hi : Int} {offs : Array Int} {len : Nat} {x : Int32} (tgt : Nat) (hd : decode M.1 pc = .ok (.tableswitch dflt lo hi offs, len)) (h1 : x.toInt < lo ∨ hi < x.toInt) (ht : (pc : Int) + dflt = (tgt : Int)) (k : GG X M Q tgt env st σ o) : GG X M Q pc env (vI x :: st) σ o :=
  fun r σf h => ⟨(k r σf h).1, fun hX ls H locs h0 hc hs hl hW hS => lv_tableOut hX.ex hX.co hd h1 ht ((k r σf h).2 hX ls H locs h0 hc hs hl hW hS)⟩
/-- a join: what stands behind it is said once -/
def jn {α γ : Type} (R : α → Hp → γ) (B : (α → Hp → γ) → γ) : γ := B R
theorem g_jn {α : Type} {R : α → Hp → Option (β × Hp)} {B : (α → Hp → Option (β × Hp)) → Option (β × Hp)} (P : (α → Hp → Option (β × Hp)) → Prop) (hR : P R) (hB : ∀ j, P j → GG X M Q pc env st σ (B j)) : GG X M Q pc env st σ (jn R B) := hB R hR
/-- a loop, with fuel -/
def lp {α γ : Type} : Nat → ((α → Hp → Option γ) → α → Hp → Option γ) → α → Hp → Option γ
  | 0, _, _, _ => none
  | n + 1, B, a, σ => B (lp n B) a σ
theorem g_lp {α : Type} {B : (α → Hp → Option (β × Hp)) → α → Hp → Option (β × Hp)} (ev : α → List (Nat × LV)) (h : ∀ ag, (∀ a σ, GG X M Q pc (ev a) st σ (ag a σ)) → ∀ a σ, GG X M Q pc (ev a) st σ (B ag a σ)) : ∀ n a σ, GG X M Q pc (ev a) st σ (lp n B a σ) := by
  intro n
  induction n with
  | zero => intro a σ r σf ho; cases ho
  | succ n ih => intro a σ; exact h _ ih a σ
/-- division: not by zero -/
def idv {γ : Type} (y : Int32) (K : Option γ) : Option γ := if y = 0 then none else K
def ldv {γ : Type} (y : Int64) (K : Option γ) : Option γ := if y = 0 then none else K

theorem g_idiv {x y : Int32} (hd : decode M.1 pc = .ok (.idiv, 1)) (k : GG X M Q (pc + 1) env (vI (x / y) :: st) σ o) : GG X M Q pc env (vI y :: vI x :: st) σ (idv y o) := by
  intro r σf ho
  unfold idv at ho
  by_cases hy : y = 0
  · rw [if_pos hy] at ho; cases ho
  · rw [if_neg hy] at ho
    exact ⟨(k r σf ho).1, fun hX ls H locs h0 hc hs hl hW hS => lv_idiv hX.ex hX.co hd hy ((k r σf ho).2 hX ls H locs h0 hc hs hl hW hS)⟩
theorem g_irem {x y : Int32} (hd : decode M.1 pc = .ok (.irem, 1)) (k : GG X M Q (pc + 1) env (vI (irm x y) :: st) σ o) : GG X M Q pc env (vI y :: vI x :: st) σ (idv y o) := by
  intro r σf ho
  unfold idv at ho
  by_cases hy : y = 0
  · rw [if_pos hy] at ho; cases ho
  · rw [if_neg hy] at ho
    exact ⟨(k r σf ho).1, fun hX ls H locs h0 hc hs hl hW hS => lv_irem hX.ex hX.co hd hy ((k r σf ho).2 hX ls H locs h0 hc hs hl hW hS)⟩
theorem g_ldiv {x y : Int64} (hd : decode M.1 pc = .ok (.ldiv, 1)) (k : GG X M Q (pc + 1) env (vL (x / y) :: st) σ o) : GG X M Q pc env (vL y :: vL x :: st) σ (ldv y o) := by
  intro r σf ho
  unfold ldv at ho
  by_cases hy : y = 0
  · rw [if_pos hy] at ho; cases ho
  · rw [if_neg hy] at ho
    exact ⟨(k r σf ho).1, fun hX ls H locs h0 hc hs hl hW hS => lv_ldiv hX.ex hX.co hd hy ((k r σf ho).2 hX ls H locs h0 hc hs hl hW hS)⟩
theorem g_lrem {x y : Int64} (hd : decode M.1 pc = .ok (.lrem, 1)) (k : GG X M Q (pc + 1) env (vL (lrm x y) :: st) σ o) : GG X M Q pc env (vL y :: vL x :: st) σ (ldv y o) := by
  intro r σf ho
  unfold ldv at ho
  by_cases hy : y = 0
  · rw [if_pos hy] at ho; cases ho
  · rw [if_neg hy] at ho
    exact ⟨(k r σf ho).1, fun hX ls H locs h0 hc hs hl hW hS => lv_lrem hX.ex hX.co hd hy ((k r σf ho).2 hX ls H locs h0 hc hs hl hW hS)⟩
end rows
