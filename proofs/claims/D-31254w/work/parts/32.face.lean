set_option maxRecDepth 100000
section ZFC
variable {p : Program} {l : Launch} {e : Env} {R : Room} {s : State} {m : MethodId} {args : Array Value} {below : List Frame} {meth : Method} {c : Code} {H : Heap} {locs : List Loc} {cells slots : Nat} {Q : State → Prop}
variable {cc : ByteArray} {pc : Nat} {ls : Array Slot} {rest st0 : List Value} {G : zG} {A A0 A1 : Nat → Prop} {H0 : Heap} {a : Nat} {mc ms : Nat} {xp xp0 : String → Prop} {av : Array Value}
/-- a method of a class, called by its interface -/
def zImp (x : MethodName) (C : String) (y : MethodName) (cc : ByteArray) (maxL : Nat) (ret : Option FieldType) : Prop :=
  (C, x, y) ∈ zfaces ∧ Cond.selects C x y ∈ lw_all ∧ Cond.instanceMethod y ∈ lw_all ∧ Cond.initialized y.cls ∈ lw_all ∧ Cond.code y cc maxL ret ∈ lw_all
theorem z_runF {own C : String} {index count : Nat} {x y : MethodName} {bytes : ByteArray} {maxL nL : Nat} {ret : Option FieldType} {rm : Room} {post : Option Value → Heap → Prop} {b v ci : Nat} {fs : List Value} {q : vw_C} (hI : zImp x C y bytes maxL ret)
    (hexec : p.tables.exec = Jvm.exec) (hb : c.code = cc) (hml : c.maxLocals = nL) (hown : s.vm.findClass own = some m.cls) (hts : ∀ w ∈ lw_all, w.before args s = true) (hM : zM l y (ws_ y bytes maxL ret) rm G A1 [.ref b, .ref v] H post xp)
    (hK : zK G A s) (hS : va_S A s.heap H locs) (hA : ∀ q, A1 q → A q) (ho : zO G H b ci fs) (hc : zcl[ci]? = some q) (hC : q.1 = C) (hlink : (Cond.methodLink own index x) ∈ lw_all) (hlen : (parseMethodDescriptor x.desc).map (fun d => d.parameters.length) = some 1)
    (hR : rm.frames + 1 ≤ R.frames ∧ 8 + (maxL + 11) + rm.locals ≤ R.locals) (hsize : ls.size = nL) (hW : (rest.map fun v => v.category).sum ≤ 8) (hdg : decode cc pc = .ok (.invokeinterface index count, 5)) (hf : cells + rm.cells ≤ R.cells ∧ slots + rm.slots ≤ R.slots) :
    vx_Run5 p l e R s m args below meth c H locs cells slots rm.cells rm.slots (F0 m pc ls (.ref v :: .ref b :: rest)) rest (zQ post A1 [Value.ref b, Value.ref v].toArray) (zX xp) A1 := by
  obtain ⟨i1, i2, i3, i4, i5⟩ := hI
  obtain ⟨f1, f2, f3, f4, f5⟩ := hK.2.2.1 _ i1
  have hq := hK.1.1 ci q hc
  obtain ⟨-, hfc, kC, hkC, hkind⟩ := hq
  refine vx_runF (C := C) (As := [.ref v]) (n := 1) (ws := ws_ y bytes maxL ret) ⟨by rw [← hC]; exact hfc, kC, hkC, hkind⟩ ⟨hexec, hb, hml, hown, hts⟩ hM ⟨⟨rfl, rfl, hR.1, hR.2, pay_in hts (lw_meth i5), List.mem_cons_self⟩, hts _ hlink, va_any rfl f1, va_any rfl f2, hts _ i2, hts _ i3, va_any rfl f3, va_any rfl f4, va_any rfl f5, hts _ i4, hts _ i5, zfaces_ok _ i1, fun sig h => ?_⟩ (z_preV hK hS hA ho hc hC) rfl rfl hsize rfl ?_ hdg hf
  · rw [h] at hlen
    exact (Option.some.inj hlen).symm
  · show 2 * 0 + _ ≤ 8
    omega
/-- behind a call by an interface that only answers -/
theorem z_callp5 {v : Value} (hr : vx_Run5 p l e R s m args below meth c H locs cells slots mc ms (F0 m pc ls st0) rest (zQ (fun r H1 => r = some v ∧ H1 = H) A1 av) (zX (fun _ => False)) A1) (hS : va_S A0 H0 H locs) (hA : ∀ q, A1 q → A0 q) (hmc : mc = 0) (hms : ms = 0)
    (kk : ∀ (locs : List Loc), va_S A0 H0 H locs → W p l e R s m args below meth c H locs cells slots Q (F0 m (pc + 5) ls (v :: rest))) : W p l e R s m args below meth c H locs cells slots Q (F0 m pc ls st0) := by
  subst hmc; subst hms
  refine z_call5 hr hS hA (fun _ _ _ _ _ h => h.elim) fun r H1 locs1 hp _ _ hS1 => ?_
  obtain ⟨rfl, rfl⟩ := hp
  exact kk locs1 hS1
/-- .. that answers v and only makes new cells -/
theorem z_callg5 {v : Value} (hr : vx_Run5 p l e R s m args below meth c H locs cells slots mc ms (F0 m pc ls st0) rest (zQ (fun r H1 => r = some v ∧ ∀ q : Nat, q < H.size → H1[q]? = H[q]?) A1 av) (zX (fun _ => False)) A1) (hS : va_S A0 H0 H locs) (hA : ∀ q, A1 q → A0 q)
    (kk : ∀ (H1 : Heap) (locs : List Loc), H.size ≤ H1.size → (∀ q : Nat, q < H.size → H1[q]? = H[q]?) → va_S A0 H0 H1 locs → W p l e R s m args below meth c H1 locs (cells + mc) (slots + ms) Q (F0 m (pc + 5) ls (v :: rest))) : W p l e R s m args below meth c H locs cells slots Q (F0 m pc ls st0) := by
  refine z_call5 hr hS hA (fun _ _ _ _ _ h => h.elim) fun r H1 locs1 hp h1 _ hS1 => ?_
  obtain ⟨rfl, hp⟩ := hp
  exact kk H1 locs1 h1 hp hS1
theorem z_callg {v : Value} (hr : vx_Run p l e R s m args below meth c H locs cells slots mc ms (F0 m pc ls st0) rest (zQ (fun r H1 => r = some v ∧ ∀ q : Nat, q < H.size → H1[q]? = H[q]?) A1 av) (zX (fun _ => False)) A1) (hS : va_S A0 H0 H locs) (hA : ∀ q, A1 q → A0 q)
    (kk : ∀ (H1 : Heap) (locs : List Loc), H.size ≤ H1.size → (∀ q : Nat, q < H.size → H1[q]? = H[q]?) → va_S A0 H0 H1 locs → W p l e R s m args below meth c H1 locs (cells + mc) (slots + ms) Q (F0 m (pc + 3) ls (v :: rest))) : W p l e R s m args below meth c H locs cells slots Q (F0 m pc ls st0) := by
  refine z_call0 hr hS hA fun r H1 locs1 hp h1 _ hS1 => ?_
  obtain ⟨rfl, hp⟩ := hp
  exact kk H1 locs1 h1 hp hS1
end ZFC
