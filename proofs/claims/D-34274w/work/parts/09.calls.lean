set_option maxRecDepth 100000
/-! calls -/
/-- what a call of super's method asks -/
theorem lw_SU {own : String} {idx : Nat} {y : MethodName} {b : ByteArray} {L : Nat} {r : Option FieldType} (h1 : Cond.methodLink own idx y ∈ lw_all) (h2 : Cond.sameMethod y.cls y.cls y.name y.desc ∈ lw_all) (h3 : Cond.superclass own y.cls ∈ lw_all) (h4 : Cond.instanceMethod y ∈ lw_all) (h5 : Cond.initialized y.cls ∈ lw_all) (h6 : Cond.code y b L r ∈ lw_all) : GoodIn lw_all (va_wsSU own idx y (ws_ y b L r)) := by
  refine lw_app ?_ (lw_meth h6)
  intro w hw
  simp only [List.mem_cons, List.not_mem_nil, or_false] at hw
  rcases hw with e | e | e | e | e
  · rw [e]; exact h1
  · rw [e]; exact h2
  · rw [e]; exact h3
  · rw [e]; exact h4
  · rw [e]; exact h5
section GCALL
variable {p : Program} {l : Launch} {e : Env} {s : State} {m : MethodId} {args : Array Value} {below : List Frame} {meth : Method} {c : Code} {cc : ByteArray} {own : String} {nL : Nat} {ret : Option FieldType} {yn : String} {E : GE} {Q : State → Prop} {pc : Nat} {L : List (Option Value)} {h : HV} {cells slots : Nat}
/-- an answer on the stack -/
def gcat : Option Value → List Value → List Value
  | some v, st => v :: st
  | none, st => st
theorem gcat_eq (v : Option Value) (st : List Value) : v.toList ++ st = gcat v st := by cases v <;> rfl
/-- a call's run, and what comes behind it -/
theorem g_run {R : Room} {st0 st : List Value} {mc ms : Nat} {a : Array Value} {post : Option Value → HV → Prop} {H : Heap} {locs : List Loc} {ls : Array Slot} (hr : va_Run p l e R s m args below meth c H locs cells slots mc ms (F0 m pc ls st0) st (gQ E post a) (gA E)) (hS : va_S (gA E) s.heap H locs) (hl : lhas ls L)
    (kk : ∀ (v : Option Value) (h' : HV), post v h' → Wg p l e R s m args below meth c E Q (pc + 3) L (gcat v st) h' (cells + mc) (slots + ms)) : W p l e R s m args below meth c H locs cells slots Q (F0 m pc ls st0) := by
  intro T hT X
  obtain ⟨v, st₀, t, T', L1, h0, X', hL, e1, e2, hq, go⟩ := hr T hT X
  rw [gcat_eq] at go
  obtain ⟨⟨v', h', ho, hpost, hP⟩, hF⟩ := hq
  cases ho
  have hS1 : va_S (gA E) s.heap T'.heap (locs ++ L1) := by
    refine ⟨?_, ?_, ?_⟩
    · rw [e1]
      exact Nat.le_trans hS.1 (by rw [← h0]; exact hF.1)
    · intro q h1 h2
      rw [e1, hF.2 q (by rw [h0]; exact Nat.lt_of_lt_of_le h1 hS.1) h2, h0]
      exact hS.2.1 q h1 h2
    · intro q hq
      rcases List.mem_append.mp hq with z | z
      · exact hS.2.2 q z
      · exact hL q z
  obtain ⟨t', a1, b1⟩ := kk v h' hpost T'.heap (locs ++ L1) ls (by rw [e1]; exact hP) hS1 hl T' rfl X'
  exact ⟨t', go t' a1, b1⟩
theorem g_run5 {R : Room} {st0 st : List Value} {mc ms : Nat} {a : Array Value} {post : Option Value → HV → Prop} {H : Heap} {locs : List Loc} {ls : Array Slot} (hr : va_Run5 p l e R s m args below meth c H locs cells slots mc ms (F0 m pc ls st0) st (gQ E post a) (gA E)) (hS : va_S (gA E) s.heap H locs) (hl : lhas ls L)
    (kk : ∀ (v : Option Value) (h' : HV), post v h' → Wg p l e R s m args below meth c E Q (pc + 5) L (gcat v st) h' (cells + mc) (slots + ms)) : W p l e R s m args below meth c H locs cells slots Q (F0 m pc ls st0) := by
  intro T hT X
  obtain ⟨v, st₀, t, T', L1, h0, X', hL, e1, e2, hq, go⟩ := hr T hT X
  rw [gcat_eq] at go
  obtain ⟨⟨v', h', ho, hpost, hP⟩, hF⟩ := hq
  cases ho
  have hS1 : va_S (gA E) s.heap T'.heap (locs ++ L1) := by
    refine ⟨?_, ?_, ?_⟩
    · rw [e1]
      exact Nat.le_trans hS.1 (by rw [← h0]; exact hF.1)
    · intro q h1 h2
      rw [e1, hF.2 q (by rw [h0]; exact Nat.lt_of_lt_of_le h1 hS.1) h2, h0]
      exact hS.2.1 q h1 h2
    · intro q hq
      rcases List.mem_append.mp hq with z | z
      · exact hS.2.2 q z
      · exact hL q z
  obtain ⟨t', a1, b1⟩ := kk v h' hpost T'.heap (locs ++ L1) ls (by rw [e1]; exact hP) hS1 hl T' rfl X'
  exact ⟨t', go t' a1, b1⟩
/-- a method's name, as calls ask for it -/
abbrev gNm (y : MethodName) (n : Nat) : Prop := y.cls ≠ "java/lang/invoke/MethodHandle" ∧ y.cls ≠ "java/lang/invoke/VarHandle" ∧ (parseMethodDescriptor y.desc).map (fun d => d.parameters.length) = some n
theorem g_preS (O : OK p s m args meth c cc own nL ret yn E) {H : Heap} {locs : List Loc} (hP : HP E h H) (hS : va_S (gA E) s.heap H locs) {av : List Value} : PreS s H (gP E av h) av :=
  ⟨gP_blind, fun U hU hW => by
    obtain ⟨z1, z2, z3⟩ := HP.warm O.k O.h O.sz hS hU hW
    exact ⟨rfl, z1, z2, z3, by rw [hU]; exact hP⟩⟩
theorem g_rm {lev lev' maxL mc' ms' mc ms : Nat} (hlev : lev' + 1 ≤ lev) (hmax : maxL ≤ 21) : (rmG lev' mc' ms').frames + 1 ≤ (rmG lev mc ms).frames ∧ 8 + (maxL + 11) + (rmG lev' mc' ms').locals ≤ (rmG lev mc ms).locals := ⟨hlev, by show 8 + (maxL + 11) + 40 * lev' ≤ 40 * lev; omega⟩
/-- through an object -/
theorem g_callV (O : OK p s m args meth c cc own nL ret yn E) {lev mc ms index : Nat} {y : MethodName} {bytes : ByteArray} {maxL lev' mc' ms' : Nat} {ret' : Option FieldType} {b lb ci N n : Nat} {fs : List Value} {C : String} {T : u_T} {As st stk : List Value} {post : Option Value → HV → Prop}
    (hM : Cg l E y bytes maxL ret' lev' mc' ms' (.ref b :: As) h post) (hstk : stk = As.reverse ++ .ref b :: st) (hc : vwCl[ci]? = some (C, T, N)) (hb : h b = some (lb, .inr (ci, fs))) (d : decode cc pc = .ok (.invokevirtual index, 3)) (q1 : Cond.methodLink own index y ∈ lw_all) (q2 : Cond.instanceMethod y ∈ lw_all) (q3 : Cond.selects C y y ∈ lw_all) (q4 : Cond.initialized C ∈ lw_all) (q5 : Cond.code y bytes maxL ret' ∈ lw_all)
    (hyc : y.cls = C) (hy : gNm y n) (hn : As.length = n) (hL : L.length = nL) (hlev : lev' + 1 ≤ lev) (hmax : maxL ≤ 21) (hst : (st.map fun v => v.category).sum ≤ 8) (hcells : cells + mc' ≤ mc) (hslots : slots + ms' ≤ ms)
    (kk : ∀ (v : Option Value) (h' : HV), post v h' → Wg p l e (rmG lev mc ms) s m args below meth c E Q (pc + 3) L (gcat v st) h' (cells + mc') (slots + ms')) : Wg p l e (rmG lev mc ms) s m args below meth c E Q pc L stk h cells slots := by
  subst hstk
  intro H locs ls hP hS hl
  refine g_run (va_runV (As := As) (rest := st) ⟨O.x, O.b, O.ml, O.ow, O.ts⟩ hM (cwV n O.ts (lw_V q1 q2 q3 q4 q5) rfl rfl rfl ⟨hyc, hy⟩ (g_rm hlev hmax)) ⟨(g_preS O hP hS).1, hP.recv O hS hb hc, (g_preS O hP hS).2⟩ rfl hn (hl.1.trans hL) rfl (lv_room hst) d ⟨hcells, hslots⟩) hS hl kk
/-- through an object, of a method that a class above its own has -/
theorem g_callX (O : OK p s m args meth c cc own nL ret yn E) {lev mc ms index : Nat} {y : MethodName} {bytes : ByteArray} {maxL lev' mc' ms' : Nat} {ret' : Option FieldType} {b lb ci N n : Nat} {fs : List Value} {C : String} {T : u_T} {As st stk : List Value} {post : Option Value → HV → Prop}
    (hM : Cg l E y bytes maxL ret' lev' mc' ms' (.ref b :: As) h post) (hstk : stk = As.reverse ++ .ref b :: st) (hc : vwCl[ci]? = some (C, T, N)) (hb : h b = some (lb, .inr (ci, fs))) (d : decode cc pc = .ok (.invokevirtual index, 3)) (q1 : Cond.methodLink own index y ∈ lw_all) (q2 : Cond.instanceMethod y ∈ lw_all) (q3 : (Cond.selects C y y).before args s = true) (q4 : Cond.initialized y.cls ∈ lw_all) (q5 : Cond.code y bytes maxL ret' ∈ lw_all)
    (hy : gNm y n) (hn : As.length = n) (hL : L.length = nL) (hlev : lev' + 1 ≤ lev) (hmax : maxL ≤ 21) (hst : (st.map fun v => v.category).sum ≤ 8) (hcells : cells + mc' ≤ mc) (hslots : slots + ms' ≤ ms)
    (kk : ∀ (v : Option Value) (h' : HV), post v h' → Wg p l e (rmG lev mc ms) s m args below meth c E Q (pc + 3) L (gcat v st) h' (cells + mc') (slots + ms')) : Wg p l e (rmG lev mc ms) s m args below meth c E Q pc L stk h cells slots := by
  subst hstk
  intro H locs ls hP hS hl
  exact g_run (va_runV (As := As) (rest := st) ⟨O.x, O.b, O.ml, O.ow, O.ts⟩ hM ⟨callB_of n O.ts (lw_meth q5) rfl rfl rfl (O.ts _ q4) (O.ts _ q1) hy (g_rm hlev hmax), O.ts _ q2, q3⟩ ⟨(g_preS O hP hS).1, hP.recv O hS hb hc, (g_preS O hP hS).2⟩ rfl hn (hl.1.trans hL) rfl (lv_room hst) d ⟨hcells, hslots⟩) hS hl kk
/-- a private method of a class above (z: a method of that class that the tables know for C) -/
theorem g_selP (O : OK p s m args meth c cc own nL ret yn E) {C : String} {y z : MethodName} (hcls : z.cls = y.cls) (hy : y.cls ≠ "java/lang/invoke/MethodHandle" ∧ y.cls ≠ "java/lang/invoke/VarHandle") (qp : Cond.privateMethod y ∈ lw_tbl) (q2 : Cond.instanceMethod y ∈ lw_all) (qz : Cond.selects C z z ∈ lw_all) : (Cond.selects C y y).before args s = true := by
  obtain ⟨c1, r1, m1, hc, -, hz, -, kz, hkz, hni⟩ := Cond.selects_spec (O.ts _ qz)
  obtain ⟨mk, methM, hnamed, hmethM, -, -⟩ := Cond.instanceMethod_spec (O.ts _ q2)
  have hfound : s.methodFound? y.cls y.name y.desc = some mk := State.methodFound?_of_named hnamed hy
  have hpriv : (Cond.privateMethod y).before args s = true := O.spec qp rfl
  have hsel : selectMethod {} s.vm c1 mk = .method mk := selectMethod_private hmethM (Cond.privateMethod_at hpriv mk methM hnamed hmethM)
  have hk : s.vm.classes[mk.cls]? = some kz := by
    have e1 := findClass_of_methodNamed hz
    have e2 := findClass_of_methodNamed hnamed
    rw [hcls, e2] at e1
    rw [Option.some.inj e1]
    exact hkz
  simp only [Cond.before, Cond.holds, Cond.value, hc, hfound, hnamed, hsel, hk]
  simp
  exact hni
/-- static -/
theorem g_callS (O : OK p s m args meth c cc own nL ret yn E) {lev mc ms index : Nat} {y : MethodName} {bytes : ByteArray} {maxL lev' mc' ms' : Nat} {ret' : Option FieldType} {n : Nat} {As st stk : List Value} {post : Option Value → HV → Prop}
    (hM : Cg l E y bytes maxL ret' lev' mc' ms' As h post) (hstk : stk = As.reverse ++ st) (d : decode cc pc = .ok (.invokestatic index, 3)) (q1 : Cond.methodLink own index y ∈ lw_all) (q2 : Cond.static y ∈ lw_all) (q4 : Cond.initialized y.cls ∈ lw_all) (q5 : Cond.code y bytes maxL ret' ∈ lw_all)
    (hy : gNm y n) (hn : As.length = n) (hL : L.length = nL) (hlev : lev' + 1 ≤ lev) (hmax : maxL ≤ 21) (hst : (st.map fun v => v.category).sum ≤ 8) (hcells : cells + mc' ≤ mc) (hslots : slots + ms' ≤ ms)
    (kk : ∀ (v : Option Value) (h' : HV), post v h' → Wg p l e (rmG lev mc ms) s m args below meth c E Q (pc + 3) L (gcat v st) h' (cells + mc') (slots + ms')) : Wg p l e (rmG lev mc ms) s m args below meth c E Q pc L stk h cells slots := by
  subst hstk
  intro H locs ls hP hS hl
  exact g_run (va_runS (As := As) (rest := st) ⟨O.x, O.b, O.ml, O.ow, O.ts⟩ hM (va_cwS n O.ts (lw_S q1 q2 q4 q5) rfl rfl rfl hy (g_rm hlev hmax)) (g_preS O hP hS) rfl hn (hl.1.trans hL) rfl (lv_room hst) d ⟨hcells, hslots⟩) hS hl kk
/-- a constructor -/
theorem g_callI (O : OK p s m args meth c cc own nL ret yn E) {lev mc ms index : Nat} {y : MethodName} {bytes : ByteArray} {maxL lev' mc' ms' : Nat} {b n : Nat} {As st stk : List Value} {post : Option Value → HV → Prop}
    (hM : Cg l E y bytes maxL none lev' mc' ms' (.ref b :: As) h post) (hstk : stk = As.reverse ++ .ref b :: st) (d : decode cc pc = .ok (.invokespecial index, 3)) (q1 : Cond.methodLink own index y ∈ lw_all) (q2 : Cond.instanceMethod y ∈ lw_all) (q4 : Cond.initialized y.cls ∈ lw_all) (q5 : Cond.code y bytes maxL none ∈ lw_all)
    (hy1 : y.name = "<init>") (hy : gNm y n) (hn : As.length = n) (hL : L.length = nL) (hlev : lev' + 1 ≤ lev) (hmax : maxL ≤ 21) (hst : (st.map fun v => v.category).sum ≤ 8) (hcells : cells + mc' ≤ mc) (hslots : slots + ms' ≤ ms)
    (kk : ∀ (v : Option Value) (h' : HV), post v h' → Wg p l e (rmG lev mc ms) s m args below meth c E Q (pc + 3) L (gcat v st) h' (cells + mc') (slots + ms')) : Wg p l e (rmG lev mc ms) s m args below meth c E Q pc L stk h cells slots := by
  subst hstk
  intro H locs ls hP hS hl
  exact g_run (va_runI (As := As) (rest := st) ⟨O.x, O.b, O.ml, O.ow, O.ts⟩ hM (cwI n O.ts (lw_meth q5) rfl rfl rfl (O.ts _ q4) (O.ts _ q1) (O.ts _ q2) hy1 hy (g_rm hlev hmax)) (g_preS O hP hS) rfl hn (hl.1.trans hL) rfl (lv_room hst) d ⟨hcells, hslots⟩) hS hl kk
/-- a nest mate's private constructor -/
theorem g_callIN (O : OK p s m args meth c cc own nL ret yn E) {lev mc ms index : Nat} {y : MethodName} {host : String} {bytes : ByteArray} {maxL lev' mc' ms' : Nat} {b n : Nat} {As st stk : List Value} {post : Option Value → HV → Prop}
    (hM : Cg l E y bytes maxL none lev' mc' ms' (.ref b :: As) h post) (hstk : stk = As.reverse ++ .ref b :: st) (d : decode cc pc = .ok (.invokespecial index, 3)) (q1 : Cond.methodLinkNest own index y host ∈ lw_tbl) (q2 : Cond.instanceMethod y ∈ lw_all) (q4 : Cond.initialized y.cls ∈ lw_all) (q5 : Cond.code y bytes maxL none ∈ lw_all)
    (hy1 : y.name = "<init>") (hy : gNm y n) (hn : As.length = n) (hL : L.length = nL) (hlev : lev' + 1 ≤ lev) (hmax : maxL ≤ 21) (hst : (st.map fun v => v.category).sum ≤ 8) (hcells : cells + mc' ≤ mc) (hslots : slots + ms' ≤ ms)
    (kk : ∀ (v : Option Value) (h' : HV), post v h' → Wg p l e (rmG lev mc ms) s m args below meth c E Q (pc + 3) L (gcat v st) h' (cells + mc') (slots + ms')) : Wg p l e (rmG lev mc ms) s m args below meth c E Q pc L stk h cells slots := by
  subst hstk
  intro H locs ls hP hS hl
  exact g_run (va_runIN (As := As) (rest := st) ⟨O.x, O.b, O.ml, O.ow, O.ts⟩ hM ⟨va_cnB n O.ts (lw_meth q5) rfl rfl rfl (O.nw q1 rfl) (O.ts _ q4) hy (g_rm hlev hmax), hy1, O.ts _ q2⟩ (g_preS O hP hS) rfl hn (hl.1.trans hL) rfl (lv_room hst) d ⟨hcells, hslots⟩) hS hl kk
/-- a nest mate's method -/
theorem g_callVN (O : OK p s m args meth c cc own nL ret yn E) {lev mc ms index : Nat} {y : MethodName} {host : String} {bytes : ByteArray} {maxL lev' mc' ms' : Nat} {ret' : Option FieldType} {b lb ci N n : Nat} {fs : List Value} {C : String} {T : u_T} {As st stk : List Value} {post : Option Value → HV → Prop}
    (hM : Cg l E y bytes maxL ret' lev' mc' ms' (.ref b :: As) h post) (hstk : stk = As.reverse ++ .ref b :: st) (hc : vwCl[ci]? = some (C, T, N)) (hb : h b = some (lb, .inr (ci, fs))) (d : decode cc pc = .ok (.invokevirtual index, 3)) (q1 : Cond.methodLinkNest own index y host ∈ lw_tbl) (q2 : Cond.instanceMethod y ∈ lw_all) (q3 : Cond.selects C y y ∈ lw_all) (q4 : Cond.initialized y.cls ∈ lw_all) (q5 : Cond.code y bytes maxL ret' ∈ lw_all)
    (hy : gNm y n) (hn : As.length = n) (hL : L.length = nL) (hlev : lev' + 1 ≤ lev) (hmax : maxL ≤ 21) (hst : (st.map fun v => v.category).sum ≤ 8) (hcells : cells + mc' ≤ mc) (hslots : slots + ms' ≤ ms)
    (kk : ∀ (v : Option Value) (h' : HV), post v h' → Wg p l e (rmG lev mc ms) s m args below meth c E Q (pc + 3) L (gcat v st) h' (cells + mc') (slots + ms')) : Wg p l e (rmG lev mc ms) s m args below meth c E Q pc L stk h cells slots := by
  subst hstk
  intro H locs ls hP hS hl
  exact g_run (va_runVN (As := As) (rest := st) ⟨O.x, O.b, O.ml, O.ow, O.ts⟩ hM ⟨va_cnB n O.ts (lw_meth q5) rfl rfl rfl (O.nw q1 rfl) (O.ts _ q4) hy (g_rm hlev hmax), O.ts _ q2, O.ts _ q3⟩ ⟨(g_preS O hP hS).1, hP.recv O hS hb hc, (g_preS O hP hS).2⟩ rfl hn (hl.1.trans hL) rfl (lv_room hst) d ⟨hcells, hslots⟩) hS hl kk
/-- a nest mate's static method -/
theorem g_callSN (O : OK p s m args meth c cc own nL ret yn E) {lev mc ms index : Nat} {y : MethodName} {host : String} {bytes : ByteArray} {maxL lev' mc' ms' : Nat} {ret' : Option FieldType} {n : Nat} {As st stk : List Value} {post : Option Value → HV → Prop}
    (hM : Cg l E y bytes maxL ret' lev' mc' ms' As h post) (hstk : stk = As.reverse ++ st) (d : decode cc pc = .ok (.invokestatic index, 3)) (q1 : Cond.methodLinkNest own index y host ∈ lw_tbl) (q2 : Cond.static y ∈ lw_all) (q4 : Cond.initialized y.cls ∈ lw_all) (q5 : Cond.code y bytes maxL ret' ∈ lw_all)
    (hy : gNm y n) (hn : As.length = n) (hL : L.length = nL) (hlev : lev' + 1 ≤ lev) (hmax : maxL ≤ 21) (hst : (st.map fun v => v.category).sum ≤ 8) (hcells : cells + mc' ≤ mc) (hslots : slots + ms' ≤ ms)
    (kk : ∀ (v : Option Value) (h' : HV), post v h' → Wg p l e (rmG lev mc ms) s m args below meth c E Q (pc + 3) L (gcat v st) h' (cells + mc') (slots + ms')) : Wg p l e (rmG lev mc ms) s m args below meth c E Q pc L stk h cells slots := by
  subst hstk
  intro H locs ls hP hS hl
  exact g_run (va_runSN (As := As) (rest := st) ⟨O.x, O.b, O.ml, O.ow, O.ts⟩ hM ⟨va_cnB n O.ts (lw_meth q5) rfl rfl rfl (O.nw q1 rfl) (O.ts _ q4) hy (g_rm hlev hmax), O.ts _ q2, trivial⟩ (g_preS O hP hS) rfl hn (hl.1.trans hL) rfl (lv_room hst) d ⟨hcells, hslots⟩) hS hl kk
/-- through an interface -/
theorem g_callF (O : OK p s m args meth c cc own nL ret yn E) {lev mc ms index count : Nat} {x y : MethodName} {bytes : ByteArray} {maxL lev' mc' ms' : Nat} {ret' : Option FieldType} {b lb ci N n : Nat} {fs : List Value} {C : String} {T : u_T} {As st stk : List Value} {post : Option Value → HV → Prop}
    (hM : Cg l E y bytes maxL ret' lev' mc' ms' (.ref b :: As) h post) (hstk : stk = As.reverse ++ .ref b :: st) (hc : vwCl[ci]? = some (C, T, N)) (hb : h b = some (lb, .inr (ci, fs))) (d : decode cc pc = .ok (.invokeinterface index count, 5)) (q1 : Cond.methodLink own index x ∈ lw_all) (q2 : Cond.instanceMethod y ∈ lw_all) (q3 : Cond.selects C x y ∈ lw_all) (q4 : Cond.initialized y.cls ∈ lw_all) (q5 : Cond.code y bytes maxL ret' ∈ lw_all)
    (w1 : Cond.declares x ∈ lw_tbl) (w3 : Cond.publicMethod y ∈ lw_tbl) (w4 : Cond.unhidden C x.name x.desc ∈ lw_tbl) (w5 : Cond.castable C x.cls ∈ lw_tbl) (w2 : (Cond.interfaceMethod x.cls x.cls x.name x.desc).before #[] s = true)
    (hy : gNm x n) (hn : As.length = n) (hL : L.length = nL) (hlev : lev' + 1 ≤ lev) (hmax : maxL ≤ 21) (hst : (st.map fun v => v.category).sum ≤ 8) (hcells : cells + mc' ≤ mc) (hslots : slots + ms' ≤ ms)
    (kk : ∀ (v : Option Value) (h' : HV), post v h' → Wg p l e (rmG lev mc ms) s m args below meth c E Q (pc + 5) L (gcat v st) h' (cells + mc') (slots + ms')) : Wg p l e (rmG lev mc ms) s m args below meth c E Q pc L stk h cells slots := by
  subst hstk
  intro H locs ls hP hS hl
  have hF : va_Fw C x y s := va_Fw.of (A := #[]) (O.nw w1 rfl) w2 (O.nw w3 rfl) (O.nw w4 rfl) (O.nw w5 rfl)
  have hG : GoodIn lw_all (va_wsF own index C x y (ws_ y bytes maxL ret')) := by
    refine lw_app ?_ (lw_meth q5)
    intro w hw
    simp only [List.mem_cons, List.not_mem_nil, or_false] at hw
    rcases hw with e | e | e | e
    · rw [e]; exact q1
    · rw [e]; exact q3
    · rw [e]; exact q2
    · rw [e]; exact q4
  exact g_run5 (va_runF (As := As) (rest := st) (g_at O hc) ⟨O.x, O.b, O.ml, O.ow, O.ts⟩ hM (va_cwF n O.ts hG rfl rfl rfl hF hy (g_rm hlev hmax)) ⟨(g_preS O hP hS).1, hP.recv O hS hb hc, (g_preS O hP hS).2⟩ rfl hn (hl.1.trans hL) rfl (lv_room hst) d ⟨hcells, hslots⟩) hS hl kk
/-- an inherited method, by the name of a class below its own (x: as it is named; y: as it is found) -/
theorem g_callU (O : OK p s m args meth c cc own nL ret yn E) {lev mc ms index : Nat} {x y : MethodName} {bytes : ByteArray} {maxL lev' mc' ms' : Nat} {ret' : Option FieldType} {b lb ci N n : Nat} {fs : List Value} {C owner : String} {T : u_T} {As st stk : List Value} {post : Option Value → HV → Prop}
    (hM : Cg l E y bytes maxL ret' lev' mc' ms' (.ref b :: As) h post) (hstk : stk = As.reverse ++ .ref b :: st) (hc : vwCl[ci]? = some (C, T, N)) (hb : h b = some (lb, .inr (ci, fs))) (d : decode cc pc = .ok (.invokevirtual index, 3)) (cw : va_CU (rmG lev mc ms) s args own C owner index x y bytes maxL ret' (ws_ y bytes maxL ret') (rmG lev' mc' ms') mc' ms' n)
    (hn : As.length = n) (hL : L.length = nL) (hst : (st.map fun v => v.category).sum ≤ 8) (hcells : cells + mc' ≤ mc) (hslots : slots + ms' ≤ ms)
    (kk : ∀ (v : Option Value) (h' : HV), post v h' → Wg p l e (rmG lev mc ms) s m args below meth c E Q (pc + 3) L (gcat v st) h' (cells + mc') (slots + ms')) : Wg p l e (rmG lev mc ms) s m args below meth c E Q pc L stk h cells slots := by
  subst hstk
  intro H locs ls hP hS hl
  exact g_run (va_runU (As := As) (rest := st) ⟨O.x, O.b, O.ml, O.ow, O.ts⟩ hM cw ⟨(g_preS O hP hS).1, hP.recv O hS hb hc, (g_preS O hP hS).2⟩ rfl hn (hl.1.trans hL) rfl (lv_room hst) d ⟨hcells, hslots⟩) hS hl kk
/-- a method x that the receiver's class C has as y (owner: where x's name is found) -/
theorem lw_O {own : String} {idx : Nat} {C owner : String} {x y : MethodName} {b : ByteArray} {L : Nat} {r : Option FieldType} (h1 : Cond.methodLink own idx x ∈ lw_all) (h2 : Cond.sameMethod x.cls owner x.name x.desc ∈ lw_all) (h3 : Cond.instanceMethod ⟨owner, x.name, x.desc⟩ ∈ lw_all) (h4 : Cond.selects C x y ∈ lw_all) (h5 : Cond.instanceMethod y ∈ lw_all) (h6 : Cond.initialized y.cls ∈ lw_all) (h7 : Cond.code y b L r ∈ lw_all) : GoodIn lw_all (va_wsO own idx C owner x y (ws_ y b L r)) := by
  refine lw_app ?_ (lw_meth h7)
  intro w hw
  simp only [List.mem_cons, List.not_mem_nil, or_false] at hw
  rcases hw with e | e | e | e | e | e
  · rw [e]; exact h1
  · rw [e]; exact h2
  · rw [e]; exact h3
  · rw [e]; exact h4
  · rw [e]; exact h5
  · rw [e]; exact h6
theorem lw_U {own : String} {idx : Nat} {C owner : String} {x y : MethodName} {b : ByteArray} {L : Nat} {r : Option FieldType} (h1 : Cond.methodLink own idx x ∈ lw_all) (h2 : Cond.sameMethod x.cls owner x.name x.desc ∈ lw_all) (h4 : Cond.selects C x y ∈ lw_all) (h5 : Cond.instanceMethod y ∈ lw_all) (h6 : Cond.initialized y.cls ∈ lw_all) (h7 : Cond.code y b L r ∈ lw_all) : GoodIn lw_all (va_wsU own idx C owner x y (ws_ y b L r)) := by
  refine lw_app ?_ (lw_meth h7)
  intro w hw
  simp only [List.mem_cons, List.not_mem_nil, or_false] at hw
  rcases hw with e | e | e | e | e
  · rw [e]; exact h1
  · rw [e]; exact h2
  · rw [e]; exact h4
  · rw [e]; exact h5
  · rw [e]; exact h6
/-- super.method(..) -/
theorem g_callSU (O : OK p s m args meth c cc own nL ret yn E) {lev mc ms index : Nat} {y : MethodName} {bytes : ByteArray} {maxL lev' mc' ms' : Nat} {ret' : Option FieldType} {b lb ci N n : Nat} {fs : List Value} {C : String} {T : u_T} {As st stk : List Value} {post : Option Value → HV → Prop}
    (hM : Cg l E y bytes maxL ret' lev' mc' ms' (.ref b :: As) h post) (hstk : stk = As.reverse ++ .ref b :: st) (hc : vwCl[ci]? = some (C, T, N)) (hb : h b = some (lb, .inr (ci, fs))) (d : decode cc pc = .ok (.invokespecial index, 3)) (cw : va_CS (rmG lev mc ms) s args own index y bytes maxL ret' (ws_ y bytes maxL ret') (rmG lev' mc' ms') mc' ms' n)
    (hn : As.length = n) (hL : L.length = nL) (hst : (st.map fun v => v.category).sum ≤ 8) (hcells : cells + mc' ≤ mc) (hslots : slots + ms' ≤ ms)
    (kk : ∀ (v : Option Value) (h' : HV), post v h' → Wg p l e (rmG lev mc ms) s m args below meth c E Q (pc + 3) L (gcat v st) h' (cells + mc') (slots + ms')) : Wg p l e (rmG lev mc ms) s m args below meth c E Q pc L stk h cells slots := by
  subst hstk
  intro H locs ls hP hS hl
  exact g_run (va_runSU (As := As) (rest := st) (g_at O hc) ⟨O.x, O.b, O.ml, O.ow, O.ts⟩ hM cw ⟨(g_preS O hP hS).1, hP.recv O hS hb hc, (g_preS O hP hS).2⟩ rfl hn (hl.1.trans hL) rfl (lv_room hst) d ⟨hcells, hslots⟩) hS hl kk
end GCALL
