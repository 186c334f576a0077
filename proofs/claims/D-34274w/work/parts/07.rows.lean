set_option maxRecDepth 100000
/-! values that are references -/
theorem g_rf {v : Value} (h : v.isRef = true) : ∃ r : Option Nat, v = va_rf r := by
  cases v with
  | ref a => exact ⟨some a, rfl⟩
  | null => exact ⟨none, rfl⟩
  | _ => cases h
theorem g_rf_inj {a b : Option Nat} (h : va_rf a = va_rf b) : a = b := by
  cases a <;> cases b <;> simp_all [va_rf]
theorem g_rfR (r : Option Nat) : (va_rf r).isRef = true := by cases r <;> rfl
theorem g_rfO (r : Option Nat) : va_rf r = .null ∨ ∃ a, va_rf r = .ref a := by
  cases r with
  | none => exact Or.inl rfl
  | some a => exact Or.inr ⟨a, rfl⟩
theorem g_rfC (r : Option Nat) : (va_rf r).category = 1 := by cases r <;> rfl
theorem g_refC {v : Value} (h : v.isRef = true) : v.category = 1 := by
  cases v with
  | ref a => rfl
  | null => rfl
  | _ => cases h
/-! plain instructions, one row each (printed by an own program out of the kit's rows) -/
section GROWS
variable {p : Program} {l : Launch} {e : Env} {R : Room} {s : State} {m : MethodId} {args : Array Value} {below : List Frame} {meth : Method} {c : Code} {cc : ByteArray} {own : String} {nL : Nat} {ret : Option FieldType} {yn : String} {E : GE} {Q : State → Prop} {pc : Nat} {L : List (Option Value)} {st : List Value} {h : HV} {cells slots : Nat}
theorem g_iconst (O : OK p s m args meth c cc own nL ret yn E) {n : Int}  (d : decode cc pc = .ok (.iconst n, 1)) (v : Int32) (hv : Int32.ofInt n = v) (kk : Wg p l e R s m args below meth c E Q (pc + 1) L (.int v :: st) h cells slots) : Wg p l e R s m args below meth c E Q pc L st h cells slots := by
  intro H locs ls hP hS hl
  exact lv_iconst O.x O.b d hv (kk H locs ls hP hS hl)
theorem g_bipush (O : OK p s m args meth c cc own nL ret yn E) {n : Int}  (d : decode cc pc = .ok (.bipush n, 2)) (v : Int32) (hv : (Int8.ofInt n).toInt32 = v) (kk : Wg p l e R s m args below meth c E Q (pc + 2) L (.int v :: st) h cells slots) : Wg p l e R s m args below meth c E Q pc L st h cells slots := by
  intro H locs ls hP hS hl
  exact lv_bipush O.x O.b d hv (kk H locs ls hP hS hl)
theorem g_sipush (O : OK p s m args meth c cc own nL ret yn E) {n : Int}  (d : decode cc pc = .ok (.sipush n, 3)) (v : Int32) (hv : (Int16.ofInt n).toInt32 = v) (kk : Wg p l e R s m args below meth c E Q (pc + 3) L (.int v :: st) h cells slots) : Wg p l e R s m args below meth c E Q pc L st h cells slots := by
  intro H locs ls hP hS hl
  exact lv_sipush O.x O.b d hv (kk H locs ls hP hS hl)
theorem g_lconst (O : OK p s m args meth c cc own nL ret yn E) {n : Fin 2}  (d : decode cc pc = .ok (.lconst n, 1)) (v : Int64) (hv : Int64.ofNat (n : Nat) = v) (kk : Wg p l e R s m args below meth c E Q (pc + 1) L (.long v :: st) h cells slots) : Wg p l e R s m args below meth c E Q pc L st h cells slots := by
  intro H locs ls hP hS hl
  exact lv_lconst O.x O.b d hv (kk H locs ls hP hS hl)
theorem g_null (O : OK p s m args meth c cc own nL ret yn E)  (d : decode cc pc = .ok (.aconst_null, 1))  (kk : Wg p l e R s m args below meth c E Q (pc + 1) L (.null :: st) h cells slots) : Wg p l e R s m args below meth c E Q pc L st h cells slots := by
  intro H locs ls hP hS hl
  exact lv_null O.x O.b d  (kk H locs ls hP hS hl)
theorem g_iload_n (O : OK p s m args meth c cc own nL ret yn E) {k : Fin 4} {x : Int32} (d : decode cc pc = .ok (.iload_n k, 1)) (hv : L[(k : Nat)]? = some (some (.int x))) (kk : Wg p l e R s m args below meth c E Q (pc + 1) L (.int x :: st) h cells slots) : Wg p l e R s m args below meth c E Q pc L st h cells slots := by
  intro H locs ls hP hS hl
  exact lv_iload_n O.x O.b d rfl (lhas_at hl hv) (kk H locs ls hP hS hl)
theorem g_iload (O : OK p s m args meth c cc own nL ret yn E) {i : Nat} {x : Int32} (d : decode cc pc = .ok (.iload i, 2)) (hv : L[i]? = some (some (.int x))) (kk : Wg p l e R s m args below meth c E Q (pc + 2) L (.int x :: st) h cells slots) : Wg p l e R s m args below meth c E Q pc L st h cells slots := by
  intro H locs ls hP hS hl
  exact lv_iload O.x O.b d (lhas_at hl hv) (kk H locs ls hP hS hl)
theorem g_lload_n (O : OK p s m args meth c cc own nL ret yn E) {k : Fin 4} {x : Int64} (d : decode cc pc = .ok (.lload_n k, 1)) (hv : L[(k : Nat)]? = some (some (.long x))) (kk : Wg p l e R s m args below meth c E Q (pc + 1) L (.long x :: st) h cells slots) : Wg p l e R s m args below meth c E Q pc L st h cells slots := by
  intro H locs ls hP hS hl
  exact lv_lload_n O.x O.b d rfl (lhas_at hl hv) (kk H locs ls hP hS hl)
theorem g_lload (O : OK p s m args meth c cc own nL ret yn E) {i : Nat} {x : Int64} (d : decode cc pc = .ok (.lload i, 2)) (hv : L[i]? = some (some (.long x))) (kk : Wg p l e R s m args below meth c E Q (pc + 2) L (.long x :: st) h cells slots) : Wg p l e R s m args below meth c E Q pc L st h cells slots := by
  intro H locs ls hP hS hl
  exact lv_lload O.x O.b d (lhas_at hl hv) (kk H locs ls hP hS hl)
theorem g_aload_n (O : OK p s m args meth c cc own nL ret yn E) {k : Fin 4} {v : Value} (d : decode cc pc = .ok (.aload_n k, 1)) (hv : L[(k : Nat)]? = some (some v)) (hr : v.isRef = true) (kk : Wg p l e R s m args below meth c E Q (pc + 1) L (v :: st) h cells slots) : Wg p l e R s m args below meth c E Q pc L st h cells slots := by
  intro H locs ls hP hS hl
  cases v with
  | ref a => exact lv_aload_n O.x O.b d rfl (lhas_at hl hv) (kk H locs ls hP hS hl)
  | null => exact lv_aload_nN O.x O.b d rfl (lhas_at hl hv) (kk H locs ls hP hS hl)
  | _ => cases hr
theorem g_aload (O : OK p s m args meth c cc own nL ret yn E) {i : Nat} {v : Value} (d : decode cc pc = .ok (.aload i, 2)) (hv : L[i]? = some (some v)) (hr : v.isRef = true) (kk : Wg p l e R s m args below meth c E Q (pc + 2) L (v :: st) h cells slots) : Wg p l e R s m args below meth c E Q pc L st h cells slots := by
  intro H locs ls hP hS hl
  cases v with
  | ref a => exact lv_aload O.x O.b d (lhas_at hl hv) (kk H locs ls hP hS hl)
  | null => exact lv_aloadN O.x O.b d (lhas_at hl hv) (kk H locs ls hP hS hl)
  | _ => cases hr
theorem g_istore_n (O : OK p s m args meth c cc own nL ret yn E) {k : Fin 4} {i : Nat} (hi : (k : Nat) = i) {x : Int32} (d : decode cc pc = .ok (.istore_n k, 1)) (hk : lst L i 1 = true) (kk : Wg p l e R s m args below meth c E Q (pc + 1) (L.set i (some (.int x))) st h cells slots) : Wg p l e R s m args below meth c E Q pc L (.int x :: st) h cells slots := by
  intro H locs ls hP hS hl
  exact lv_istore_n O.x O.b d hi hl (lst_n hk) rfl (fun ls2 h2 => kk H locs ls2 hP hS (lset1 (lst_n hk) (lst_k hk) h2))
theorem g_lstore_n (O : OK p s m args meth c cc own nL ret yn E) {k : Fin 4} {i : Nat} (hi : (k : Nat) = i) {x : Int64} (d : decode cc pc = .ok (.lstore_n k, 1)) (hk : lst L i 2 = true) (kk : Wg p l e R s m args below meth c E Q (pc + 1) ((L.set i (some (.long x))).set (i + 1) none) st h cells slots) : Wg p l e R s m args below meth c E Q pc L (.long x :: st) h cells slots := by
  intro H locs ls hP hS hl
  exact lv_lstore_n O.x O.b d hi hl (lst_n hk) rfl (fun ls2 h2 => kk H locs ls2 hP hS (lset2 (lst_n hk) (lst_k hk) h2))
theorem g_astore_n (O : OK p s m args meth c cc own nL ret yn E) {k : Fin 4} {i : Nat} (hi : (k : Nat) = i) {v : Value} (d : decode cc pc = .ok (.astore_n k, 1)) (hr : v.isRef = true) (hk : lst L i 1 = true) (kk : Wg p l e R s m args below meth c E Q (pc + 1) (L.set i (some v)) st h cells slots) : Wg p l e R s m args below meth c E Q pc L (v :: st) h cells slots := by
  intro H locs ls hP hS hl
  cases v with
  | ref a => exact lv_astore_n O.x O.b d hi hl (lst_n hk) rfl (fun ls2 h2 => kk H locs ls2 hP hS (lset1 (lst_n hk) (lst_k hk) h2))
  | null => exact lv_astore_nN O.x O.b d hi hl (lst_n hk) rfl (fun ls2 h2 => kk H locs ls2 hP hS (lset1 (lst_n hk) (lst_k hk) h2))
  | _ => cases hr
theorem g_istore (O : OK p s m args meth c cc own nL ret yn E) {i : Nat} {x : Int32} (d : decode cc pc = .ok (.istore i, 2)) (hk : lst L i 1 = true) (kk : Wg p l e R s m args below meth c E Q (pc + 2) (L.set i (some (.int x))) st h cells slots) : Wg p l e R s m args below meth c E Q pc L (.int x :: st) h cells slots := by
  intro H locs ls hP hS hl
  exact lv_istore O.x O.b d hl (lst_n hk) rfl (fun ls2 h2 => kk H locs ls2 hP hS (lset1 (lst_n hk) (lst_k hk) h2))
theorem g_lstore (O : OK p s m args meth c cc own nL ret yn E) {i : Nat} {x : Int64} (d : decode cc pc = .ok (.lstore i, 2)) (hk : lst L i 2 = true) (kk : Wg p l e R s m args below meth c E Q (pc + 2) ((L.set i (some (.long x))).set (i + 1) none) st h cells slots) : Wg p l e R s m args below meth c E Q pc L (.long x :: st) h cells slots := by
  intro H locs ls hP hS hl
  exact lv_lstore O.x O.b d hl (lst_n hk) rfl (fun ls2 h2 => kk H locs ls2 hP hS (lset2 (lst_n hk) (lst_k hk) h2))
theorem g_astore (O : OK p s m args meth c cc own nL ret yn E) {i : Nat} {v : Value} (d : decode cc pc = .ok (.astore i, 2)) (hr : v.isRef = true) (hk : lst L i 1 = true) (kk : Wg p l e R s m args below meth c E Q (pc + 2) (L.set i (some v)) st h cells slots) : Wg p l e R s m args below meth c E Q pc L (v :: st) h cells slots := by
  intro H locs ls hP hS hl
  cases v with
  | ref a => exact lv_astore O.x O.b d hl (lst_n hk) rfl (fun ls2 h2 => kk H locs ls2 hP hS (lset1 (lst_n hk) (lst_k hk) h2))
  | null => exact lv_astoreN O.x O.b d hl (lst_n hk) rfl (fun ls2 h2 => kk H locs ls2 hP hS (lset1 (lst_n hk) (lst_k hk) h2))
  | _ => cases hr
theorem lprs_get : ∀ (L : List (Option Value)) (i : Nat) (v : Value), (i, v) ∈ lprs 0 L → ∃ k : Nat, (lprs 0 L)[k]? = some (i, v) := fun L i v hm => List.getElem?_of_mem hm
theorem g_iinc (O : OK p s m args meth c cc own nL ret yn E) {i : Nat} {n : Int} {x : Int32} (d : decode cc pc = .ok (.iinc i n, 3)) (hv : L[i]? = some (some (.int x))) (hk : lok L i = true) (kk : Wg p l e R s m args below meth c E Q (pc + 3) (L.set i (some (.int (x + Int32.ofInt n)))) st h cells slots) : Wg p l e R s m args below meth c E Q pc L st h cells slots := by
  intro H locs ls hP hS hl
  have hn : i < L.length := (List.getElem?_eq_some_iff.mp hv).1
  obtain ⟨k, hk1⟩ := lprs_get L i _ ((lprs_mem L 0 i _).mpr ⟨Nat.zero_le _, hv⟩)
  exact lv_iinc O.x O.b d hl hk1 rfl hn rfl (fun ls2 h2 => kk H locs ls2 hP hS (lset1 hn hk h2))
theorem g_iadd (O : OK p s m args meth c cc own nL ret yn E) {x y : Int32}  (d : decode cc pc = .ok (.iadd, 1)) (kk : Wg p l e R s m args below meth c E Q (pc + 1) L (.int (x + y) :: st) h cells slots) : Wg p l e R s m args below meth c E Q pc L (.int y :: .int x :: st) h cells slots := by
  intro H locs ls hP hS hl
  exact lv_iadd O.x O.b d  (kk H locs ls hP hS hl)
theorem g_isub (O : OK p s m args meth c cc own nL ret yn E) {x y : Int32}  (d : decode cc pc = .ok (.isub, 1)) (kk : Wg p l e R s m args below meth c E Q (pc + 1) L (.int (x - y) :: st) h cells slots) : Wg p l e R s m args below meth c E Q pc L (.int y :: .int x :: st) h cells slots := by
  intro H locs ls hP hS hl
  exact lv_isub O.x O.b d  (kk H locs ls hP hS hl)
theorem g_imul (O : OK p s m args meth c cc own nL ret yn E) {x y : Int32}  (d : decode cc pc = .ok (.imul, 1)) (kk : Wg p l e R s m args below meth c E Q (pc + 1) L (.int (x * y) :: st) h cells slots) : Wg p l e R s m args below meth c E Q pc L (.int y :: .int x :: st) h cells slots := by
  intro H locs ls hP hS hl
  exact lv_imul O.x O.b d  (kk H locs ls hP hS hl)
theorem g_iand (O : OK p s m args meth c cc own nL ret yn E) {x y : Int32}  (d : decode cc pc = .ok (.iand, 1)) (kk : Wg p l e R s m args below meth c E Q (pc + 1) L (.int (x &&& y) :: st) h cells slots) : Wg p l e R s m args below meth c E Q pc L (.int y :: .int x :: st) h cells slots := by
  intro H locs ls hP hS hl
  exact lv_iand O.x O.b d  (kk H locs ls hP hS hl)
theorem g_ixor (O : OK p s m args meth c cc own nL ret yn E) {x y : Int32}  (d : decode cc pc = .ok (.ixor, 1)) (kk : Wg p l e R s m args below meth c E Q (pc + 1) L (.int (x ^^^ y) :: st) h cells slots) : Wg p l e R s m args below meth c E Q pc L (.int y :: .int x :: st) h cells slots := by
  intro H locs ls hP hS hl
  exact lv_ixor O.x O.b d  (kk H locs ls hP hS hl)
theorem g_ladd (O : OK p s m args meth c cc own nL ret yn E) {x y : Int64}  (d : decode cc pc = .ok (.ladd, 1)) (kk : Wg p l e R s m args below meth c E Q (pc + 1) L (.long (x + y) :: st) h cells slots) : Wg p l e R s m args below meth c E Q pc L (.long y :: .long x :: st) h cells slots := by
  intro H locs ls hP hS hl
  exact lv_ladd O.x O.b d  (kk H locs ls hP hS hl)
theorem g_lsub (O : OK p s m args meth c cc own nL ret yn E) {x y : Int64}  (d : decode cc pc = .ok (.lsub, 1)) (kk : Wg p l e R s m args below meth c E Q (pc + 1) L (.long (x - y) :: st) h cells slots) : Wg p l e R s m args below meth c E Q pc L (.long y :: .long x :: st) h cells slots := by
  intro H locs ls hP hS hl
  exact lv_lsub O.x O.b d  (kk H locs ls hP hS hl)
theorem g_lmul (O : OK p s m args meth c cc own nL ret yn E) {x y : Int64}  (d : decode cc pc = .ok (.lmul, 1)) (kk : Wg p l e R s m args below meth c E Q (pc + 1) L (.long (x * y) :: st) h cells slots) : Wg p l e R s m args below meth c E Q pc L (.long y :: .long x :: st) h cells slots := by
  intro H locs ls hP hS hl
  exact lv_lmul O.x O.b d  (kk H locs ls hP hS hl)
theorem g_idiv (O : OK p s m args meth c cc own nL ret yn E) {x y : Int32} (hne : ¬ y = 0) (d : decode cc pc = .ok (.idiv, 1)) (kk : Wg p l e R s m args below meth c E Q (pc + 1) L (.int (x / y) :: st) h cells slots) : Wg p l e R s m args below meth c E Q pc L (.int y :: .int x :: st) h cells slots := by
  intro H locs ls hP hS hl
  exact lv_idiv O.x O.b d hne (kk H locs ls hP hS hl)
theorem g_irem (O : OK p s m args meth c cc own nL ret yn E) {x y : Int32} (hne : ¬ y = 0) (d : decode cc pc = .ok (.irem, 1)) (kk : Wg p l e R s m args below meth c E Q (pc + 1) L (.int (x - x / y * y) :: st) h cells slots) : Wg p l e R s m args below meth c E Q pc L (.int y :: .int x :: st) h cells slots := by
  intro H locs ls hP hS hl
  exact lv_irem O.x O.b d hne (kk H locs ls hP hS hl)
theorem g_ldiv (O : OK p s m args meth c cc own nL ret yn E) {x y : Int64} (hne : ¬ y = 0) (d : decode cc pc = .ok (.ldiv, 1)) (kk : Wg p l e R s m args below meth c E Q (pc + 1) L (.long (x / y) :: st) h cells slots) : Wg p l e R s m args below meth c E Q pc L (.long y :: .long x :: st) h cells slots := by
  intro H locs ls hP hS hl
  exact lv_ldiv O.x O.b d hne (kk H locs ls hP hS hl)
theorem g_ishl (O : OK p s m args meth c cc own nL ret yn E) {x y : Int32}  (d : decode cc pc = .ok (.ishl, 1)) (kk : Wg p l e R s m args below meth c E Q (pc + 1) L (.int (x <<< (y &&& 31)) :: st) h cells slots) : Wg p l e R s m args below meth c E Q pc L (.int y :: .int x :: st) h cells slots := by
  intro H locs ls hP hS hl
  exact lv_ishl O.x O.b d  (kk H locs ls hP hS hl)
theorem g_ishr (O : OK p s m args meth c cc own nL ret yn E) {x y : Int32}  (d : decode cc pc = .ok (.ishr, 1)) (kk : Wg p l e R s m args below meth c E Q (pc + 1) L (.int (x >>> (y &&& 31)) :: st) h cells slots) : Wg p l e R s m args below meth c E Q pc L (.int y :: .int x :: st) h cells slots := by
  intro H locs ls hP hS hl
  exact lv_ishr O.x O.b d  (kk H locs ls hP hS hl)
theorem g_iushr (O : OK p s m args meth c cc own nL ret yn E) {x y : Int32}  (d : decode cc pc = .ok (.iushr, 1)) (kk : Wg p l e R s m args below meth c E Q (pc + 1) L (.int ((x.toUInt32 >>> (y.toUInt32 &&& Int32.toUInt32 31)).toInt32) :: st) h cells slots) : Wg p l e R s m args below meth c E Q pc L (.int y :: .int x :: st) h cells slots := by
  intro H locs ls hP hS hl
  exact lv_iushr O.x O.b d rfl (kk H locs ls hP hS hl)
theorem g_i2l (O : OK p s m args meth c cc own nL ret yn E) {x : Int32} (d : decode cc pc = .ok (.i2l, 1)) (kk : Wg p l e R s m args below meth c E Q (pc + 1) L (.long x.toInt64 :: st) h cells slots) : Wg p l e R s m args below meth c E Q pc L (.int x :: st) h cells slots := by
  intro H locs ls hP hS hl
  exact lv_i2l O.x O.b d rfl (kk H locs ls hP hS hl)
theorem g_l2i (O : OK p s m args meth c cc own nL ret yn E) {x : Int64} (d : decode cc pc = .ok (.l2i, 1)) (kk : Wg p l e R s m args below meth c E Q (pc + 1) L (.int x.toInt32 :: st) h cells slots) : Wg p l e R s m args below meth c E Q pc L (.long x :: st) h cells slots := by
  intro H locs ls hP hS hl
  exact lv_l2i O.x O.b d rfl (kk H locs ls hP hS hl)
theorem g_i2c (O : OK p s m args meth c cc own nL ret yn E) {x : Int32} (d : decode cc pc = .ok (.i2c, 1)) (kk : Wg p l e R s m args below meth c E Q (pc + 1) L (.int ((x.toUInt32 % 65536).toInt32) :: st) h cells slots) : Wg p l e R s m args below meth c E Q pc L (.int x :: st) h cells slots := by
  intro H locs ls hP hS hl
  exact lv_i2c O.x O.b d rfl (kk H locs ls hP hS hl)
theorem g_i2b (O : OK p s m args meth c cc own nL ret yn E) {x : Int32} (d : decode cc pc = .ok (.i2b, 1)) (kk : Wg p l e R s m args below meth c E Q (pc + 1) L (.int x.toInt8.toInt32 :: st) h cells slots) : Wg p l e R s m args below meth c E Q pc L (.int x :: st) h cells slots := by
  intro H locs ls hP hS hl
  exact lv_i2b O.x O.b d rfl (kk H locs ls hP hS hl)
theorem g_lcmp (O : OK p s m args meth c cc own nL ret yn E) {x y : Int64} (d : decode cc pc = .ok (.lcmp, 1)) (kk : Wg p l e R s m args below meth c E Q (pc + 1) L (.int (lg_cmp x y) :: st) h cells slots) : Wg p l e R s m args below meth c E Q pc L (.long y :: .long x :: st) h cells slots := by
  intro H locs ls hP hS hl
  exact W.lcmp O.x O.b d (kk H locs ls hP hS hl)
theorem g_dup (O : OK p s m args meth c cc own nL ret yn E) {v : Value} (d : decode cc pc = .ok (.dup, 1)) (hv : v.category = 1) (kk : Wg p l e R s m args below meth c E Q (pc + 1) L (v :: v :: st) h cells slots) : Wg p l e R s m args below meth c E Q pc L (v :: st) h cells slots := by
  intro H locs ls hP hS hl
  exact lv_dup O.x O.b d hv (kk H locs ls hP hS hl)
theorem g_dup_x1 (O : OK p s m args meth c cc own nL ret yn E) {v u : Value} (d : decode cc pc = .ok (.dup_x1, 1)) (hv : v.category = 1) (hu : u.category = 1) (kk : Wg p l e R s m args below meth c E Q (pc + 1) L (v :: u :: v :: st) h cells slots) : Wg p l e R s m args below meth c E Q pc L (v :: u :: st) h cells slots := by
  intro H locs ls hP hS hl
  exact lv_dup_x1 O.x O.b d hv hu (kk H locs ls hP hS hl)
theorem g_dup2 (O : OK p s m args meth c cc own nL ret yn E) {v u : Value} (d : decode cc pc = .ok (.dup2, 1)) (hv : v.category = 1) (hu : u.category = 1) (kk : Wg p l e R s m args below meth c E Q (pc + 1) L (v :: u :: v :: u :: st) h cells slots) : Wg p l e R s m args below meth c E Q pc L (v :: u :: st) h cells slots := by
  intro H locs ls hP hS hl
  exact lv_dup2_11 O.x O.b d hv hu (kk H locs ls hP hS hl)
theorem g_pop (O : OK p s m args meth c cc own nL ret yn E) {v : Value} (d : decode cc pc = .ok (.pop, 1)) (hv : v.category = 1) (kk : Wg p l e R s m args below meth c E Q (pc + 1) L st h cells slots) : Wg p l e R s m args below meth c E Q pc L (v :: st) h cells slots := by
  intro H locs ls hP hS hl
  exact lv_pop O.x O.b d hv (kk H locs ls hP hS hl)
theorem g_if_eq (O : OK p s m args meth c cc own nL ret yn E) {x : Int32} {off : Int} (tgt : Nat) (d : decode cc pc = .ok (.ifCond .eq off, 3)) (ht : (pc : Int) + off = (tgt : Int)) (kt : x = 0 → Wg p l e R s m args below meth c E Q tgt L st h cells slots) (kf : ¬ x = 0 → Wg p l e R s m args below meth c E Q (pc + 3) L st h cells slots) : Wg p l e R s m args below meth c E Q pc L (.int x :: st) h cells slots := by
  intro H locs ls hP hS hl
  exact lv_if_eq O.x O.b d ht (fun q => kt q H locs ls hP hS hl) (fun q => kf q H locs ls hP hS hl)
theorem g_icmp_eq (O : OK p s m args meth c cc own nL ret yn E) {x y : Int32} {off : Int} (tgt : Nat) (d : decode cc pc = .ok (.if_icmp .eq off, 3)) (ht : (pc : Int) + off = (tgt : Int)) (kt : x = y → Wg p l e R s m args below meth c E Q tgt L st h cells slots) (kf : ¬ x = y → Wg p l e R s m args below meth c E Q (pc + 3) L st h cells slots) : Wg p l e R s m args below meth c E Q pc L (.int y :: .int x :: st) h cells slots := by
  intro H locs ls hP hS hl
  exact lv_icmp_eq O.x O.b d ht (fun q => kt q H locs ls hP hS hl) (fun q => kf q H locs ls hP hS hl)
theorem g_if_ne (O : OK p s m args meth c cc own nL ret yn E) {x : Int32} {off : Int} (tgt : Nat) (d : decode cc pc = .ok (.ifCond .ne off, 3)) (ht : (pc : Int) + off = (tgt : Int)) (kt : ¬ x = 0 → Wg p l e R s m args below meth c E Q tgt L st h cells slots) (kf : x = 0 → Wg p l e R s m args below meth c E Q (pc + 3) L st h cells slots) : Wg p l e R s m args below meth c E Q pc L (.int x :: st) h cells slots := by
  intro H locs ls hP hS hl
  exact lv_if_ne O.x O.b d ht (fun q => kt q H locs ls hP hS hl) (fun q => kf q H locs ls hP hS hl)
theorem g_icmp_ne (O : OK p s m args meth c cc own nL ret yn E) {x y : Int32} {off : Int} (tgt : Nat) (d : decode cc pc = .ok (.if_icmp .ne off, 3)) (ht : (pc : Int) + off = (tgt : Int)) (kt : ¬ x = y → Wg p l e R s m args below meth c E Q tgt L st h cells slots) (kf : x = y → Wg p l e R s m args below meth c E Q (pc + 3) L st h cells slots) : Wg p l e R s m args below meth c E Q pc L (.int y :: .int x :: st) h cells slots := by
  intro H locs ls hP hS hl
  exact lv_icmp_ne O.x O.b d ht (fun q => kt q H locs ls hP hS hl) (fun q => kf q H locs ls hP hS hl)
theorem g_if_lt (O : OK p s m args meth c cc own nL ret yn E) {x : Int32} {off : Int} (tgt : Nat) (d : decode cc pc = .ok (.ifCond .lt off, 3)) (ht : (pc : Int) + off = (tgt : Int)) (kt : x < 0 → Wg p l e R s m args below meth c E Q tgt L st h cells slots) (kf : ¬ x < 0 → Wg p l e R s m args below meth c E Q (pc + 3) L st h cells slots) : Wg p l e R s m args below meth c E Q pc L (.int x :: st) h cells slots := by
  intro H locs ls hP hS hl
  exact lv_if_lt O.x O.b d ht (fun q => kt q H locs ls hP hS hl) (fun q => kf q H locs ls hP hS hl)
theorem g_icmp_lt (O : OK p s m args meth c cc own nL ret yn E) {x y : Int32} {off : Int} (tgt : Nat) (d : decode cc pc = .ok (.if_icmp .lt off, 3)) (ht : (pc : Int) + off = (tgt : Int)) (kt : x < y → Wg p l e R s m args below meth c E Q tgt L st h cells slots) (kf : ¬ x < y → Wg p l e R s m args below meth c E Q (pc + 3) L st h cells slots) : Wg p l e R s m args below meth c E Q pc L (.int y :: .int x :: st) h cells slots := by
  intro H locs ls hP hS hl
  exact lv_icmp_lt O.x O.b d ht (fun q => kt q H locs ls hP hS hl) (fun q => kf q H locs ls hP hS hl)
theorem g_if_ge (O : OK p s m args meth c cc own nL ret yn E) {x : Int32} {off : Int} (tgt : Nat) (d : decode cc pc = .ok (.ifCond .ge off, 3)) (ht : (pc : Int) + off = (tgt : Int)) (kt : 0 ≤ x → Wg p l e R s m args below meth c E Q tgt L st h cells slots) (kf : ¬ 0 ≤ x → Wg p l e R s m args below meth c E Q (pc + 3) L st h cells slots) : Wg p l e R s m args below meth c E Q pc L (.int x :: st) h cells slots := by
  intro H locs ls hP hS hl
  exact lv_if_ge O.x O.b d ht (fun q => kt q H locs ls hP hS hl) (fun q => kf q H locs ls hP hS hl)
theorem g_icmp_ge (O : OK p s m args meth c cc own nL ret yn E) {x y : Int32} {off : Int} (tgt : Nat) (d : decode cc pc = .ok (.if_icmp .ge off, 3)) (ht : (pc : Int) + off = (tgt : Int)) (kt : y ≤ x → Wg p l e R s m args below meth c E Q tgt L st h cells slots) (kf : ¬ y ≤ x → Wg p l e R s m args below meth c E Q (pc + 3) L st h cells slots) : Wg p l e R s m args below meth c E Q pc L (.int y :: .int x :: st) h cells slots := by
  intro H locs ls hP hS hl
  exact lv_icmp_ge O.x O.b d ht (fun q => kt q H locs ls hP hS hl) (fun q => kf q H locs ls hP hS hl)
theorem g_if_gt (O : OK p s m args meth c cc own nL ret yn E) {x : Int32} {off : Int} (tgt : Nat) (d : decode cc pc = .ok (.ifCond .gt off, 3)) (ht : (pc : Int) + off = (tgt : Int)) (kt : 0 < x → Wg p l e R s m args below meth c E Q tgt L st h cells slots) (kf : ¬ 0 < x → Wg p l e R s m args below meth c E Q (pc + 3) L st h cells slots) : Wg p l e R s m args below meth c E Q pc L (.int x :: st) h cells slots := by
  intro H locs ls hP hS hl
  exact lv_if_gt O.x O.b d ht (fun q => kt q H locs ls hP hS hl) (fun q => kf q H locs ls hP hS hl)
theorem g_icmp_gt (O : OK p s m args meth c cc own nL ret yn E) {x y : Int32} {off : Int} (tgt : Nat) (d : decode cc pc = .ok (.if_icmp .gt off, 3)) (ht : (pc : Int) + off = (tgt : Int)) (kt : y < x → Wg p l e R s m args below meth c E Q tgt L st h cells slots) (kf : ¬ y < x → Wg p l e R s m args below meth c E Q (pc + 3) L st h cells slots) : Wg p l e R s m args below meth c E Q pc L (.int y :: .int x :: st) h cells slots := by
  intro H locs ls hP hS hl
  exact lv_icmp_gt O.x O.b d ht (fun q => kt q H locs ls hP hS hl) (fun q => kf q H locs ls hP hS hl)
theorem g_if_le (O : OK p s m args meth c cc own nL ret yn E) {x : Int32} {off : Int} (tgt : Nat) (d : decode cc pc = .ok (.ifCond .le off, 3)) (ht : (pc : Int) + off = (tgt : Int)) (kt : x ≤ 0 → Wg p l e R s m args below meth c E Q tgt L st h cells slots) (kf : ¬ x ≤ 0 → Wg p l e R s m args below meth c E Q (pc + 3) L st h cells slots) : Wg p l e R s m args below meth c E Q pc L (.int x :: st) h cells slots := by
  intro H locs ls hP hS hl
  exact lv_if_le O.x O.b d ht (fun q => kt q H locs ls hP hS hl) (fun q => kf q H locs ls hP hS hl)
theorem g_icmp_le (O : OK p s m args meth c cc own nL ret yn E) {x y : Int32} {off : Int} (tgt : Nat) (d : decode cc pc = .ok (.if_icmp .le off, 3)) (ht : (pc : Int) + off = (tgt : Int)) (kt : x ≤ y → Wg p l e R s m args below meth c E Q tgt L st h cells slots) (kf : ¬ x ≤ y → Wg p l e R s m args below meth c E Q (pc + 3) L st h cells slots) : Wg p l e R s m args below meth c E Q pc L (.int y :: .int x :: st) h cells slots := by
  intro H locs ls hP hS hl
  exact lv_icmp_le O.x O.b d ht (fun q => kt q H locs ls hP hS hl) (fun q => kf q H locs ls hP hS hl)
theorem g_goto (O : OK p s m args meth c cc own nL ret yn E) {off : Int} (tgt : Nat) (d : decode cc pc = .ok (.goto off, 3)) (ht : (pc : Int) + off = (tgt : Int)) (kk : Wg p l e R s m args below meth c E Q tgt L st h cells slots) : Wg p l e R s m args below meth c E Q pc L st h cells slots := by
  intro H locs ls hP hS hl
  exact lv_goto O.x O.b d ht (kk H locs ls hP hS hl)
theorem g_acmp_eq (O : OK p s m args meth c cc own nL ret yn E) {v u : Value} {off : Int} (tgt : Nat) (d : decode cc pc = .ok (.if_acmp .eq off, 3)) (ht : (pc : Int) + off = (tgt : Int)) (hv : v.isRef = true) (hu : u.isRef = true) (kt : v = u → Wg p l e R s m args below meth c E Q tgt L st h cells slots) (kf : ¬ v = u → Wg p l e R s m args below meth c E Q (pc + 3) L st h cells slots) : Wg p l e R s m args below meth c E Q pc L (u :: v :: st) h cells slots := by
  intro H locs ls hP hS hl
  obtain ⟨rv, rfl⟩ := g_rf hv
  obtain ⟨ru, rfl⟩ := g_rf hu
  exact lv_acmp_eq O.x O.b d ht (fun q => kt (by first | exact congrArg va_rf q | exact fun z => q (g_rf_inj z)) H locs ls hP hS hl) (fun q => kf (by first | exact congrArg va_rf q | exact fun z => q (g_rf_inj z)) H locs ls hP hS hl)
theorem g_acmp_ne (O : OK p s m args meth c cc own nL ret yn E) {v u : Value} {off : Int} (tgt : Nat) (d : decode cc pc = .ok (.if_acmp .ne off, 3)) (ht : (pc : Int) + off = (tgt : Int)) (hv : v.isRef = true) (hu : u.isRef = true) (kt : ¬ v = u → Wg p l e R s m args below meth c E Q tgt L st h cells slots) (kf : v = u → Wg p l e R s m args below meth c E Q (pc + 3) L st h cells slots) : Wg p l e R s m args below meth c E Q pc L (u :: v :: st) h cells slots := by
  intro H locs ls hP hS hl
  obtain ⟨rv, rfl⟩ := g_rf hv
  obtain ⟨ru, rfl⟩ := g_rf hu
  exact lv_acmp_ne O.x O.b d ht (fun q => kt (by first | exact congrArg va_rf q | exact fun z => q (g_rf_inj z)) H locs ls hP hS hl) (fun q => kf (by first | exact congrArg va_rf q | exact fun z => q (g_rf_inj z)) H locs ls hP hS hl)
theorem g_ifnull (O : OK p s m args meth c cc own nL ret yn E) {v : Value} {off : Int} (tgt : Nat) (d : decode cc pc = .ok (.ifnull off, 3)) (ht : (pc : Int) + off = (tgt : Int)) (hv : v.isRef = true) (kn : v = .null → Wg p l e R s m args below meth c E Q tgt L st h cells slots) (kr : ∀ a : Nat, v = .ref a → Wg p l e R s m args below meth c E Q (pc + 3) L st h cells slots) : Wg p l e R s m args below meth c E Q pc L (v :: st) h cells slots := by
  intro H locs ls hP hS hl
  cases v with
  | ref a => exact lv_ifnull O.x O.b d (kr a rfl H locs ls hP hS hl)
  | null => exact lv_ifnullN O.x O.b d ht (kn rfl H locs ls hP hS hl)
  | _ => cases hv
theorem g_ifnonnull (O : OK p s m args meth c cc own nL ret yn E) {v : Value} {off : Int} (tgt : Nat) (d : decode cc pc = .ok (.ifnonnull off, 3)) (ht : (pc : Int) + off = (tgt : Int)) (hv : v.isRef = true) (kn : v = .null → Wg p l e R s m args below meth c E Q (pc + 3) L st h cells slots) (kr : ∀ a : Nat, v = .ref a → Wg p l e R s m args below meth c E Q tgt L st h cells slots) : Wg p l e R s m args below meth c E Q pc L (v :: st) h cells slots := by
  intro H locs ls hP hS hl
  cases v with
  | ref a => exact lv_ifnonnull O.x O.b d ht (kr a rfl H locs ls hP hS hl)
  | null => exact lv_ifnonnullN O.x O.b d (kn rfl H locs ls hP hS hl)
  | _ => cases hv
theorem g_ldc (O : OK p s m args meth c cc own nL ret yn E) {index : Nat} {v : Int32} (d : decode cc pc = .ok (.ldc index, 2)) (q : Jvm.Cond.constant own index v ∈ lw_all) (kk : Wg p l e R s m args below meth c E Q (pc + 2) L (.int v :: st) h cells slots) : Wg p l e R s m args below meth c E Q pc L st h cells slots := by
  intro H locs ls hP hS hl
  exact lv_ldc O.x O.b O.ow (O.ts _ q) d (kk H locs ls hP hS hl)
theorem g_ldc2 (O : OK p s m args meth c cc own nL ret yn E) {index : Nat} {v : Int64} (d : decode cc pc = .ok (.ldc2_w index, 3)) (q : Jvm.Cond.constantLong own index v ∈ lw_all) (kk : Wg p l e R s m args below meth c E Q (pc + 3) L (.long v :: st) h cells slots) : Wg p l e R s m args below meth c E Q pc L st h cells slots := by
  intro H locs ls hP hS hl
  exact lv_ldc2 O.x O.b O.ow (O.ts _ q) d (kk H locs ls hP hS hl)
theorem g_ldcE (O : OK p s m args meth c cc own nL ret yn E) (d : decode cc pc = .ok (.ldc 69, 2)) (ho : own = RX1) (kk : Wg p l e R s m args below meth c E Q (pc + 2) L (.ref (gc E 0) :: st) h cells slots) : Wg p l e R s m args below meth c E Q pc L st h cells slots := by
  subst ho
  intro H locs ls hP hS hl
  exact va_ldcS O.x O.b O.ow O.k.2.2.1 d (kk H locs ls hP hS hl)
end GROWS
