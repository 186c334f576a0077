set_option maxRecDepth 100000
/-! super.m(..), where m is found above the superclass (own; x: as it is named, in own's superclass; y: as it is found, in that one's superclass) -/
section GSUP
variable {p : Program} {l : Launch} {e : Env} {R : Room} {s : State} {m : MethodId} {args : Array Value} {below : List Frame} {meth : Method} {c : Code}
theorem g_above {cn cm : ClassId} {k : Class} (hk : s.vm.classes[cn]? = some k) (hs : k.super = some cm) : s.vm.isSubclass cn cm = true := by
  have hsz : 0 < s.vm.classes.size := Nat.lt_of_le_of_lt (Nat.zero_le _) (Array.getElem?_eq_some_iff.mp hk).1
  unfold Vm.isSubclass
  obtain ⟨n, hn⟩ : ∃ n, s.vm.classes.size = n + 1 := ⟨s.vm.classes.size - 1, by omega⟩
  rw [hn]
  show (cn == cm || (match s.vm.classes[cn]? with | some k => (match k.super with | some p => s.vm.isSubclassAux (n + 1) p cm | none => false) | none => false)) = true
  rw [hk]
  show (cn == cm || (match k.super with | some p => s.vm.isSubclassAux (n + 1) p cm | none => false)) = true
  rw [hs]
  show (cn == cm || (cm == cm || _)) = true
  simp
theorem g_callSU2a {T : State} {locs : List Loc} {cells slots : Nat} (X : Stand p l e R s m args below meth c T locs cells slots) (hexec : p.tables.exec = Jvm.exec) {own owner : String} {index : Nat} {x y : MethodName} {bytes : ByteArray} {maxL : Nat} {ret : Option FieldType} (hy : y = ⟨owner, x.name, x.desc⟩)
    (hown : s.vm.findClass own = some m.cls) (hlink : (Cond.methodLink own index x).before args s = true) (hsame : (Cond.sameMethod x.cls owner x.name x.desc).before args s = true) (hsup : (Cond.superclass own x.cls).before args s = true) (hsup2 : (Cond.superclass x.cls owner).before args s = true)
    (hinst : (Cond.instanceMethod y).before args s = true) (hcode : (Cond.code y bytes maxL ret).before args s = true) (hno : x.name ≠ "<init>")
    {W : Nat} {Pre : Pt → Array Value → Prop} {Post : Pt → Array Value → Option Value → Pt → Prop} (hK : Back l R p e below s args y 3 W Pre Post)
    {b : Addr} {cellB : Cell} {kB : Class} (hcell : T.heap[b]? = some cellB) (hobj : cellB.vm.isStatics = false) (hkB : s.vm.classes[cellB.cls]? = some kB)
    {g : JFrame} (hg : g.method = m) (hsize : g.locals.size = c.maxLocals) {argsL rest : List Value} (hlen : ∀ sig, parseMethodDescriptor x.desc = some sig → argsL.length = sig.parameters.length)
    (hstack : g.stack = argsL.reverse ++ .ref b :: rest) (hW : 2 * g.monitorRoom + (rest.map fun v => v.category).sum ≤ W) (hdg : decode c.code g.pc = .ok (.invokespecial index, 3))
    (hpre : ∀ vm₁, s.WarmedH vm₁ → Pre ⟨T.setVm vm₁, locs, cells, slots⟩ (Value.ref b :: argsL).toArray) :
    ∃ (v : Option Value) (vm₁ : Vm) (B : Pt), s.WarmedH vm₁ ∧ Stand p l e R s m args below meth c B.U B.locs B.cells B.slots ∧ Post ⟨T.setVm vm₁, locs, cells, slots⟩ (Value.ref b :: argsL).toArray v B ∧
      ∀ target, Steps p.tables e below (B.U.setTop { g with pc := g.pc + 3, stack := v.toList ++ rest }) target → Steps p.tables e below (T.setTop g) target := by
  subst hy
  obtain ⟨mk, methM, hnamed, hmethM, hstM, habM⟩ := Cond.instanceMethod_spec hinst
  obtain ⟨methM', cM, hmethM', -, -, -, -, -, -, hsigM⟩ := Cond.code_spec hnamed hcode
  cases hmethM.symm.trans hmethM'
  obtain ⟨ps, dk, kp, hps, hdk, hkp, hsuper, -, -, hnid⟩ := Cond.superclass_spec hown hsup
  obtain ⟨ps2, dk2, kp2, hps2, hdk2, hkp2, hsuper2, -, -, hnid2⟩ := Cond.superclass_spec hps hsup2
  have hn : s.methodNamed? ⟨owner, x.name, x.desc⟩ = some mk := hnamed
  have hpm : ps2 = mk.cls := Option.some.inj (hps2.symm.trans (findClass_of_methodNamed hnamed))
  have hsub : s.vm.isSubclass ps mk.cls = true := by rw [← hpm]; exact g_above hdk2 hsuper2
  obtain ⟨vm₁, X₁, hstep₁⟩ := X.invokespecialUp hexec hown hlink hsame hn hmethM hstM habM hno hdk hnid hps hsuper hsub (a := b) (cell := cellB) hcell
    (fun z h => by rw [h] at hobj; cases hobj) hkB (g := g) hg (argsL := argsL) (rest := rest) (hlen _ hsigM) hstack hdg
  obtain ⟨v, B, X', hpost, hsteps⟩ := hK m meth c ⟨T.setVm vm₁, locs, cells, slots⟩ { g with stack := rest } (.invokespecial index) mk (Value.ref b :: argsL).toArray X₁ hg hsize hdg hW (X₁.named hnamed) (hpre vm₁ X₁.warmed)
  exact ⟨v, vm₁, B, X₁.warmed, X', hpost, fun target h => hstep₁ _ (by rw [doInvoke_state]; exact hsteps.trans h)⟩
abbrev g_CS2 (R : Room) (s : State) (args : Array Value) (own owner : String) (index : Nat) (x y : MethodName) (bytes : ByteArray) (maxL : Nat) (ret : Option FieldType) (ws : List Cond) (rm : Room) (mc ms n : Nat) : Prop :=
  (rm.cells = mc ∧ rm.slots = ms ∧ rm.frames + 1 ≤ R.frames ∧ 8 + (maxL + 11) + rm.locals ≤ R.locals ∧ (∀ w ∈ ws, ∀ (a' : Array Value) (U : State), s.WarmedH U.vm → w.before a' U = true) ∧ Cond.code y bytes maxL ret ∈ ws) ∧
  (Cond.methodLink own index x).before args s = true ∧ (Cond.sameMethod x.cls owner x.name x.desc).before args s = true ∧ (Cond.superclass own x.cls).before args s = true ∧ (Cond.superclass x.cls owner).before args s = true ∧ (Cond.instanceMethod y).before args s = true ∧ (Cond.initialized y.cls).before args s = true ∧ (Cond.code y bytes maxL ret).before args s = true ∧ y = ⟨owner, x.name, x.desc⟩ ∧ x.name ≠ "<init>" ∧ (∀ sig, parseMethodDescriptor x.desc = some sig → n = sig.parameters.length)
theorem g_cwSU2 {own owner : String} {index maxL : Nat} {x y : MethodName} {bytes : ByteArray} {ret : Option FieldType} {lev lev' mc ms mc' ms' : Nat} (n : Nat) (ht : ∀ w ∈ lw_all, w.before args s = true) (h1 : Cond.methodLink own index x ∈ lw_all) (h2 : Cond.sameMethod x.cls owner x.name x.desc ∈ lw_all) (h3 : Cond.superclass own x.cls ∈ lw_all) (h3b : Cond.superclass x.cls owner ∈ lw_all) (h4 : Cond.instanceMethod y ∈ lw_all) (h5 : Cond.initialized y.cls ∈ lw_all) (h6 : Cond.code y bytes maxL ret ∈ lw_all) (hy : y = ⟨owner, x.name, x.desc⟩) (hno : x.name ≠ "<init>") (hd : (parseMethodDescriptor x.desc).map (fun d => d.parameters.length) = some n) (hlev : lev' + 1 ≤ lev) (hmax : maxL ≤ 21) : g_CS2 (rmG lev mc ms) s args own owner index x y bytes maxL ret (ws_ y bytes maxL ret) (rmG lev' mc' ms') mc' ms' n := by
  have hG : GoodIn lw_all (ws_ y bytes maxL ret) := lw_meth h6
  refine ⟨⟨rfl, rfl, (g_rm (mc' := mc') (ms' := ms') (mc := mc) (ms := ms) hlev hmax).1, (g_rm (mc' := mc') (ms' := ms') (mc := mc) (ms := ms) hlev hmax).2, pay_in ht hG, List.mem_cons_self⟩, ht _ h1, ht _ h2, ht _ h3, ht _ h3b, ht _ h4, ht _ h5, ht _ h6, hy, hno, fun sig h => ?_⟩
  rw [h] at hd
  exact (Option.some.inj hd).symm
variable {H : Heap} {locs : List Loc} {cells slots : Nat}
theorem g_runSU2 {x y : MethodName} {bytes cc : ByteArray} {maxL nL mc ms n index : Nat} {ret : Option FieldType} {ws : List Cond} {rm : Room} {Pc : Array Value → State → Prop} {Qc : Array Value → State → Outcome → State → Prop} {free : Addr → Prop} {Ts : List Cond} {own owner C : String} {cC : ClassId} {b : Addr} {As rest : List Value} {g : JFrame}
    (hat : ClassAt s C cC) (S : CallFix p m c cc nL s args Ts own) (hM : Met l y ws rm Pc Qc mc ms free) (cw : g_CS2 R s args own owner index x y bytes maxL ret ws rm mc ms n) (hp : PreV s H C b Pc As)
    (hg : g.method = m) (hn : As.length = n) (hsize : g.locals.size = nL) (hstack : g.stack = As.reverse ++ .ref b :: rest) (hW : 2 * g.monitorRoom + (rest.map fun v => v.category).sum ≤ 8) (hdg : decode cc g.pc = .ok (.invokespecial index, 3)) (hf : cells + mc ≤ R.cells ∧ slots + ms ≤ R.slots) :
    va_Run p l e R s m args below meth c H locs cells slots mc ms g rest (Qc (Value.ref b :: As).toArray) (free) := by
  obtain ⟨⟨hrc, hrs, hfr, hlo, hws, hcw⟩, hl1, hl2, hl3, hl3b, hl4, hini, hcode, hy, hno, hlen⟩ := cw
  have hK : Back l R p e below s args y 3 8 (PreOf R mc ms Pc) (PostOf Qc mc ms free) := back_of (bytes := bytes) (maxL := maxL) (ret := ret) hM hp.1 hrc hrs hfr hlo hws hcw (fun a' U hW => word_at hW (Or.inl (by first | rfl | simp [Cond.onTables, Cond.keeps, Cond.steady])) hini)
  obtain ⟨hx, hb, hml, ho, -⟩ := S
  obtain ⟨-, ⟨cellB, hcB, hoB, hclB⟩, hPc⟩ := hp
  obtain ⟨hfc, kB, hkB, -⟩ := hat
  cases hfc.symm.trans hclB
  intro T hT X
  obtain ⟨v, vm₁, ⟨U', l2, c2, s2⟩, hW₁, X', ⟨g', mk, t, L, e1, e2, hq, h1, hL, h2, h3⟩, st⟩ := g_callSU2a X hx hy (bytes := bytes) (maxL := maxL) (ret := ret) ho hl1 hl2 hl3 hl3b hl4 hcode hno hK (by rw [hT]; exact hcB) hoB hkB hg (hsize.trans hml.symm) (argsL := As) (rest := rest) (fun sig h => hn.trans (hlen sig h)) hstack hW (by rw [hb]; exact hdg)
    (fun vm₁ hW₁ => ⟨hf.1, hf.2, hPc (T.setVm vm₁) hT hW₁⟩)
  dsimp only [Pt.U, Pt.locs, Pt.cells, Pt.slots] at X' e1 e2 h1 h2 h3 st
  subst h1; subst h2; subst h3
  exact ⟨v, (T.setVm vm₁).calling g' mk (Value.ref b :: As).toArray, t, U', L, hT, X', hL, e1, e2, hq, st⟩
end GSUP
section GSUP2
variable {p : Program} {l : Launch} {e : Env} {s : State} {m : MethodId} {args : Array Value} {below : List Frame} {meth : Method} {c : Code} {cc : ByteArray} {own : String} {nL : Nat} {ret : Option FieldType} {yn : String} {E : GE} {Q : State → Prop} {pc : Nat} {L : List (Option Value)} {h : HV} {cells slots : Nat}
theorem g_callSU2 (O : OK p s m args meth c cc own nL ret yn E) {lev mc ms index : Nat} {owner : String} {x y : MethodName} {bytes : ByteArray} {maxL lev' mc' ms' : Nat} {ret' : Option FieldType} {b lb ci N n : Nat} {fs : List Value} {C : String} {T : u_T} {As st stk : List Value} {post : Option Value → HV → Prop}
    (hM : Cg l E y bytes maxL ret' lev' mc' ms' (.ref b :: As) h post) (hstk : stk = As.reverse ++ .ref b :: st) (hc : vwCl[ci]? = some (C, T, N)) (hb : h b = some (lb, .inr (ci, fs))) (d : decode cc pc = .ok (.invokespecial index, 3)) (cw : g_CS2 (rmG lev mc ms) s args own owner index x y bytes maxL ret' (ws_ y bytes maxL ret') (rmG lev' mc' ms') mc' ms' n)
    (hn : As.length = n) (hL : L.length = nL) (hst : (st.map fun v => v.category).sum ≤ 8) (hcells : cells + mc' ≤ mc) (hslots : slots + ms' ≤ ms)
    (kk : ∀ (v : Option Value) (h' : HV), post v h' → Wg p l e (rmG lev mc ms) s m args below meth c E Q (pc + 3) L (gcat v st) h' (cells + mc') (slots + ms')) : Wg p l e (rmG lev mc ms) s m args below meth c E Q pc L stk h cells slots := by
  subst hstk
  intro H locs ls hP hS hl
  exact g_run (g_runSU2 (As := As) (rest := st) (g_at O hc) ⟨O.x, O.b, O.ml, O.ow, O.ts⟩ hM cw ⟨(g_preS O hP hS).1, hP.recv O hS hb hc, (g_preS O hP hS).2⟩ rfl hn (hl.1.trans hL) rfl (lv_room hst) d ⟨hcells, hslots⟩) hS hl kk
end GSUP2
