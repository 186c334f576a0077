set_option maxRecDepth 100000
/-! int[n][5], long[n][5] -/
section GMUL
variable {p : Program} {l : Launch} {e : Env} {s : State} {m : MethodId} {args : Array Value} {below : List Frame} {meth : Method} {c : Code} {cc : ByteArray} {own : String} {nL : Nat} {ret : Option FieldType} {yn : String} {E : GE} {Q : State → Prop} {pc : Nat} {L : List (Option Value)} {st : List Value} {h : HV} {cells slots : Nat}
abbrev cRows (A : ClassId) (n : Nat) (g : Nat → Option Nat) : va_E := .inl (A, n, .inr (.inr (.inr (.inr g))))
theorem g_multiI (O : OK p s m args meth c cc own nL ret yn E) {index lev mc ms : Nat} {vn : Int32} (lab n : Nat) (hvn : vn = nI n) (hn : n < 1000) (q : Cond.classLink own index "[[I" ∈ lw_all) (d : decode cc pc = .ok (.multianewarray index 2, 4)) (hcells : cells + (1 + n) ≤ mc) (hslots : slots + (n + n * 5) ≤ ms)
    (kk : ∀ a : Nat, (∀ b, a ≤ b → h b = none) → Wg p l e (rmG lev mc ms) s m args below meth c E Q (pc + 4) L (.ref a :: st) (hmul h a n lab lab (cRows (aII E) n (fun j => if j < n then some (a + 1 + j) else none)) (.inl (aI E, 5, .inl (fun _ => 0)))) (cells + 1 + n) (slots + n + n * 5)) : Wg p l e (rmG lev mc ms) s m args below meth c E Q pc L (.int (nI 5) :: .int vn :: st) h cells slots :=
  g_multi O lab lab 5 0 n 5 (.inl (fun _ => 0)) hvn rfl rfl rfl rfl (O.K.2 5 _ rfl).2 (O.K.2 0 _ rfl).2 hn (by decide) (by decide) rfl rfl q q176 O.k.2.2.2.2.2.1 d hcells hslots kk
theorem g_multiJ (O : OK p s m args meth c cc own nL ret yn E) {index lev mc ms : Nat} {vn : Int32} (lab n : Nat) (hvn : vn = nI n) (hn : n < 1000) (q : Cond.classLink own index "[[J" ∈ lw_all) (d : decode cc pc = .ok (.multianewarray index 2, 4)) (hcells : cells + (1 + n) ≤ mc) (hslots : slots + (n + n * 5) ≤ ms)
    (kk : ∀ a : Nat, (∀ b, a ≤ b → h b = none) → Wg p l e (rmG lev mc ms) s m args below meth c E Q (pc + 4) L (.ref a :: st) (hmul h a n lab lab (cRows (aJJ E) n (fun j => if j < n then some (a + 1 + j) else none)) (.inl (aJ E, 5, .inr (.inl (fun _ => 0))))) (cells + 1 + n) (slots + n + n * 5)) : Wg p l e (rmG lev mc ms) s m args below meth c E Q pc L (.int (nI 5) :: .int vn :: st) h cells slots :=
  g_multi O lab lab 6 1 n 5 (.inr (.inl (fun _ => 0))) hvn rfl rfl rfl rfl (O.K.2 6 _ rfl).2 (O.K.2 1 _ rfl).2 hn (by decide) (by decide) rfl rfl q q1327 O.k.2.2.2.2.2.2.1 d hcells hslots kk
end GMUL
