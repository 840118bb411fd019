set_option maxRecDepth 100000
section ZB
variable {p : Program} {l : Launch} {e : Env} {R : Room} {s : State} {m : MethodId} {args : Array Value} {below : List Frame} {meth : Method} {c : Code} {H : Heap} {locs : List Loc} {cells slots : Nat} {Q : State → Prop}
variable {cc : ByteArray} {pc : Nat} {ls : Array Slot} {rest : List Value} {G : zG} {A : Nat → Prop} {H0 : Heap} {a : Nat}
/-- fields that are declared above the class that the link names -/
theorem z_getS (hexec : p.tables.exec = Jvm.exec) (hb : c.code = cc) {own ref C : String} {T : u_T} {N ci index : Nat} (hts : ∀ w ∈ lw_all, w.before args s = true) (hin : ∀ w ∈ u_ws C T N, w ∈ lw_all) (hown : s.vm.findClass own = some m.cls) (hK : zK G A s) {fs : List Value} (ho : zO G H a ci fs) (hc : zcl[ci]? = some (C, T, N)) (k : Nat) (hk : k < N) (hlink : (Cond.fieldLink own index ref (T k).2.1 (T k).2.2.1) ∈ lw_all) (hsame : (Cond.sameField ref (T k).1 (T k).2.1 (T k).2.2.1) ∈ lw_all) {v : Value} (hv : fs[k]? = some v) (hdg : decode cc pc = .ok (.getfield index, 3))
    (kk : W p l e R s m args below meth c H locs cells slots Q (F0 m (pc + 3) ls (v :: rest))) : W p l e R s m args below meth c H locs cells slots Q (F0 m pc ls (.ref a :: rest)) :=
  va_get hexec hb hts hin hown hK.1 (z_single ho) 0 rfl hc k hk (hts _ hlink) (fun x h => u_same (hts _ hsame) x h) hv hdg kk
theorem z_getNS (hexec : p.tables.exec = Jvm.exec) (hb : c.code = cc) {own ref C host : String} {T : u_T} {N ci index : Nat} (hts : ∀ w ∈ lw_all, w.before args s = true) (hin : ∀ w ∈ u_ws C T N, w ∈ lw_all) (hown : s.vm.findClass own = some m.cls) (hK : zK G A s) {fs : List Value} (ho : zO G H a ci fs) (hc : zcl[ci]? = some (C, T, N)) (k : Nat) (hk : k < N) (hlink : (Cond.fieldLinkNest own index ref (T k).2.1 (T k).2.2.1 host) ∈ lw_tbl) (hsame : (Cond.sameField ref (T k).1 (T k).2.1 (T k).2.2.1) ∈ lw_all) {v : Value} (hv : fs[k]? = some v) (hdg : decode cc pc = .ok (.getfield index, 3))
    (kk : W p l e R s m args below meth c H locs cells slots Q (F0 m (pc + 3) ls (v :: rest))) : W p l e R s m args below meth c H locs cells slots Q (F0 m pc ls (.ref a :: rest)) :=
  va_getN hexec hb hts hin hown hK.1 (z_single ho) 0 rfl hc k hk (va_Nw.use rfl (hK.2.1 _ hlink rfl)) (fun x h => u_same (hts _ hsame) x h) hv hdg kk
theorem z_putS (hexec : p.tables.exec = Jvm.exec) (hb : c.code = cc) {own ref C : String} {T : u_T} {N ci index : Nat} (hts : ∀ w ∈ lw_all, w.before args s = true) (hin : ∀ w ∈ u_ws C T N, w ∈ lw_all) (ty0 : Nat → FieldType) (hty : ∀ k, k < N → parseFieldDescriptor (T k).2.2.1 = some (ty0 k)) (hnm : ∀ a, a < N → ∀ b, b < N → a ≠ b → (T a).2.1 ≠ (T b).2.1) (hown : s.vm.findClass own = some m.cls) (hK : zK G A s) {fs : List Value} (ho : zO G H a ci fs) (hAa : A a) (hS : va_S A H0 H locs) (hc : zcl[ci]? = some (C, T, N)) (k : Nat) (hk : k < N) (hlink : (Cond.fieldLink own index ref (T k).2.1 (T k).2.2.1) ∈ lw_all) (hsame : (Cond.sameField ref (T k).1 (T k).2.1 (T k).2.2.1) ∈ lw_all) (hfin : (T k).2.2.2 = false) {v : Value} (hn : narrow (ty0 k) v = v) (hfit : fits (ty0 k) v = true) (hl : k < fs.length)
    (hdg : decode cc pc = .ok (.putfield index, 3)) (kk : ∀ (H1 : Heap) (locs1 : List Loc), zO G H1 a ci (fs.set k v) → H1.size = H.size → (∀ q : Nat, q ≠ a → H1[q]? = H[q]?) → va_S A H0 H1 locs1 → W p l e R s m args below meth c H1 locs1 cells slots Q (F0 m (pc + 3) ls rest)) : W p l e R s m args below meth c H locs cells slots Q (F0 m pc ls (v :: .ref a :: rest)) := by
  have hap := va_apart (own := own) hts hin ty0 hty hnm hK.1 hc
  obtain ⟨r, h1, cell, q1, q2, q3, q4⟩ := ho
  have hr : r = (C, T, N) := Option.some.inj (h1.symm.trans hc)
  subst hr
  obtain ⟨hS1, hfc, kC, hkC, hkind⟩ := hK.1.1 ci _ hc
  obtain ⟨cf, kf, fi, f, hi, hsl⟩ := hS1 k hk
  have hlay := hts _ (hin _ (u_in_lay hk))
  unfold u_lay at hlay
  rw [if_neg (by rw [hfin]; decide)] at hlay
  have hst := (u_facts hfc hkC (u_lays hts hin hk) hi).1
  have h6 := u_store hfc hkC hkind hlay hi (hty k hk) hn hfit
  refine W.putK hexec hb (f := f) ⟨hown, hts _ hlink, ⟨_, _, _, u_same (hts _ hsame) _ hi⟩, hst⟩ (by rw [q2]; exact h6) q1 q3 (by rw [hsl]; exact k2_hasslot (q4 k hk)) rfl rfl hdg fun H' e1 e2 e3 => ?_
  rw [hsl] at e1 ⊢
  exact kk H' _ ⟨_, hc, t_OB.to (V := updV (vp_V fs) k v) ⟨_, e1, q2, q3, t_set q4 hap hk v⟩ (fun j _ => vp_updV_set hl v j)⟩ e2 e3 (hS.put e2 e3 hAa)
/-- a new object, under a name -/
theorem z_newO (hexec : p.tables.exec = Jvm.exec) (hb : c.code = cc) {own C : String} {T : u_T} {N ci index : Nat} (hts : ∀ w ∈ lw_all, w.before args s = true) (hin : ∀ w ∈ u_ws C T N, w ∈ lw_all) (ty : Nat → FieldType) (hty : ∀ k, k < N → parseFieldDescriptor (T k).2.2.1 = some (ty k)) (hown : s.vm.findClass own = some m.cls) (hcl : (Cond.classLink own index C) ∈ lw_all) (hinst : (Cond.instantiable C N) ∈ lw_all) (hini : (Cond.initialized C) ∈ lw_all)
    (hK : zK G A s) (hS : va_S A H0 H locs) (hc : zcl[ci]? = some (C, T, N)) {fs : List Value} (hfs : ∀ j, j < N → defaultValue (ty j) = vp_V fs j) (hcells : cells + 1 ≤ R.cells) (hslots : slots + N ≤ R.slots) (hdg : decode cc pc = .ok (.new index, 3))
    (kk : ∀ (q : Nat) (H1 : Heap), q = H.size → zO G H1 q ci fs → H1.size = H.size + 1 → (∀ q : Nat, q < H.size → H1[q]? = H[q]?) → va_S A H0 H1 locs →
      W p l e R s m args below meth c H1 locs (cells + 1) (slots + N) Q (F0 m (pc + 3) ls (.ref q :: rest))) : W p l e R s m args below meth c H locs cells slots Q (F0 m pc ls rest) :=
  z_new hexec hb hts hin ty hty hown hcl hinst hini hK hS hc hfs hcells hslots hdg fun H1 h1 h2 h3 h4 => kk _ H1 rfl h1 h2 h3 h4
theorem z_newIO (hexec : p.tables.exec = Jvm.exec) (hb : c.code = cc) (hts : ∀ w ∈ lw_all, w.before args s = true) (hK : zK G A s) (hS : va_S A H0 H locs)
    {n : Int} {N : Nat} (hN : n = N) (hN2 : N ≤ 100000000) (hcells : cells + 1 ≤ R.cells) (hslots : slots + N ≤ R.slots) (hdg : decode cc pc = .ok (.newarray .int, 2))
    (kk : ∀ (q : Nat) (H1 : Heap), q = H.size → zAI G H1 q N (zF (fun _ => 0)) → H1.size = H.size + 1 → (∀ q : Nat, q < H.size → H1[q]? = H[q]?) → va_S A H0 H1 locs →
      W p l e R s m args below meth c H1 locs (cells + 1) (slots + N) Q (F0 m (pc + 2) ls (.ref q :: rest))) : W p l e R s m args below meth c H locs cells slots Q (F0 m pc ls (.int (iI n) :: rest)) :=
  z_newI hexec hb hts hK hS N hN hN2 hcells hslots hdg fun H1 h1 h2 h3 h4 => kk _ H1 rfl h1 h2 h3 h4
end ZB
theorem z_fitZ (b : Bool) : fits .boolean (.int (iI (bI b))) = true := by cases b <;> decide
theorem z_narq (C : String) (r : Option Nat) : narrow (.object C) (va_rf r) = va_rf r := by cases r <;> rfl
theorem z_fitq (C : String) (r : Option Nat) : fits (.object C) (va_rf r) = true := by cases r <;> rfl
/-- the rows of Object -/
def zEf (n : Int) (el : Nat → Nat) : Nat → Option Nat := fun i => if (i : Int) < n then some (el i) else none
theorem zAO_congr {G : zG} {H : Heap} {a n : Nat} {f g : Nat → Option Nat} (h : zAO G H a n f) (e : ∀ k : Nat, k < n → f k = g k) : zAO G H a n g := by
  show H[a]? = some (vp_cell _ _)
  rw [show vp_cell G.2.1.2.1 (n, .inr (.inr (.inr (.inr g)))) = vp_cell G.2.1.2.1 (n, .inr (.inr (.inr (.inr f)))) from ?_]
  · exact h
  · rw [vp_cell_q, vp_cell_q]
    unfold arrV
    congr 2
    funext j
    show va_rf (g _) = va_rf (f _)
    rw [e _ j.isLt]
/-- an ArrayList of n things el 0 .. -/
def zLst (G : zG) (H : Heap) (al ar : Nat) (mc n : Int) (cp : Nat) (el : Nat → Nat) : Prop :=
  zO G H al 35 [.int (iI mc), .ref ar, .int (iI n)] ∧ zAO G H ar cp (zEf n el) ∧ (0 ≤ n ∧ n ≤ cp ∧ cp ≤ 1000) ∧ (cp = 0 → ar = G.2.2.1) ∧ al ≠ ar
def zEl (G : zG) (H : Heap) (y : Nat) : Prop := ∃ (ci : Nat) (fs : List Value) (q : vw_C), zcl[ci]? = some q ∧ zO G H y ci fs
theorem zEl.lt {G : zG} {H : Heap} {y : Nat} (h : zEl G H y) : y < H.size := by
  obtain ⟨ci, fs, q, h1, h2⟩ := h
  exact h2.lt
theorem zEl.kept {G : zG} {H H1 : Heap} {y : Nat} (h : zEl G H y) (hq : H1[y]? = H[y]?) : zEl G H1 y := by
  obtain ⟨ci, fs, q, h1, h2⟩ := h
  exact ⟨ci, fs, q, h1, va_at.kept h2 hq⟩
theorem zcl_cast : ∀ q ∈ zcl, (Cond.castable q.1 "java/lang/Object") ∈ lw_tbl := List.forall_mem_cons.mpr ⟨q2688, List.forall_mem_cons.mpr ⟨q2690, List.forall_mem_cons.mpr ⟨q2691, List.forall_mem_cons.mpr ⟨q2692, List.forall_mem_cons.mpr ⟨q2693, List.forall_mem_cons.mpr ⟨q2709, List.forall_mem_cons.mpr ⟨q2720, List.forall_mem_cons.mpr ⟨q2731, List.forall_mem_cons.mpr ⟨q2732, List.forall_mem_cons.mpr ⟨q2702, List.forall_mem_cons.mpr ⟨q2703, List.forall_mem_cons.mpr ⟨q2704, List.forall_mem_cons.mpr ⟨q2733, List.forall_mem_cons.mpr ⟨q2701, List.forall_mem_cons.mpr ⟨q2708, List.forall_mem_cons.mpr ⟨q2696, List.forall_mem_cons.mpr ⟨q2697, List.forall_mem_cons.mpr ⟨q2699, List.forall_mem_cons.mpr ⟨q2705, List.forall_mem_cons.mpr ⟨q2706, List.forall_mem_cons.mpr ⟨q2707, List.forall_mem_cons.mpr ⟨q2710, List.forall_mem_cons.mpr ⟨q2711, List.forall_mem_cons.mpr ⟨q2712, List.forall_mem_cons.mpr ⟨q2713, List.forall_mem_cons.mpr ⟨q2714, List.forall_mem_cons.mpr ⟨q2715, List.forall_mem_cons.mpr ⟨q2716, List.forall_mem_cons.mpr ⟨q2717, List.forall_mem_cons.mpr ⟨q2718, List.forall_mem_cons.mpr ⟨q2719, List.forall_mem_cons.mpr ⟨q2722, List.forall_mem_cons.mpr ⟨q2723, List.forall_mem_cons.mpr ⟨q2724, List.forall_mem_cons.mpr ⟨q2725, List.forall_mem_cons.mpr ⟨q2689, fun _ h => absurd h List.not_mem_nil⟩⟩⟩⟩⟩⟩⟩⟩⟩⟩⟩⟩⟩⟩⟩⟩⟩⟩⟩⟩⟩⟩⟩⟩⟩⟩⟩⟩⟩⟩⟩⟩⟩⟩⟩⟩
theorem z_anyEl {G : zG} {A : Nat → Prop} {s : State} {H : Heap} {y : Nat} (hK : zK G A s) (h : zEl G H y) : va_Any "java/lang/Object" s H y := by
  obtain ⟨ci, fs, q, h1, h2⟩ := h
  exact z_any hK h2 h1 (zcl_cast q (List.mem_of_getElem? h1))
section ZV
variable {p : Program} {l : Launch} {e : Env} {R : Room} {s : State} {m : MethodId} {args : Array Value} {below : List Frame} {meth : Method} {c : Code} {H : Heap} {locs : List Loc} {cells slots : Nat} {Q : State → Prop}
variable {cc : ByteArray} {pc : Nat} {ls : Array Slot} {rest st0 : List Value} {G : zG} {A A0 A1 : Nat → Prop} {H0 : Heap} {a : Nat} {mc ms : Nat} {xp xp0 : String → Prop} {av : Array Value}
/-- calls by what they answer: nothing, a known value, a reference, the machine's text of a reference that may be null -/
theorem z_callV {P : Heap → Prop} (hr : vx_Run p l e R s m args below meth c H locs cells slots mc ms (F0 m pc ls st0) rest (zQ (fun r H1 => r = none ∧ P H1) A1 av) (zX (fun _ => False)) A1) (hS : va_S A0 H0 H locs) (hA : ∀ q, A1 q → A0 q)
    (kk : ∀ (H1 : Heap) (locs1 : List Loc), P H1 → H.size ≤ H1.size → (∀ q : Nat, q < H.size → ¬ A1 q → H1[q]? = H[q]?) → va_S A0 H0 H1 locs1 → W p l e R s m args below meth c H1 locs1 (cells + mc) (slots + ms) Q (F0 m (pc + 3) ls rest)) : W p l e R s m args below meth c H locs cells slots Q (F0 m pc ls st0) :=
  z_call0 hr hS hA fun r H1 locs1 hp h1 h2 h3 => by obtain ⟨rfl, hp⟩ := hp; exact kk H1 locs1 hp h1 h2 h3
theorem z_callR {v : Value} {P : Heap → Prop} (hr : vx_Run p l e R s m args below meth c H locs cells slots mc ms (F0 m pc ls st0) rest (zQ (fun r H1 => r = some v ∧ P H1) A1 av) (zX (fun _ => False)) A1) (hS : va_S A0 H0 H locs) (hA : ∀ q, A1 q → A0 q)
    (kk : ∀ (H1 : Heap) (locs1 : List Loc), P H1 → H.size ≤ H1.size → (∀ q : Nat, q < H.size → ¬ A1 q → H1[q]? = H[q]?) → va_S A0 H0 H1 locs1 → W p l e R s m args below meth c H1 locs1 (cells + mc) (slots + ms) Q (F0 m (pc + 3) ls (v :: rest))) : W p l e R s m args below meth c H locs cells slots Q (F0 m pc ls st0) :=
  z_call0 hr hS hA fun r H1 locs1 hp h1 h2 h3 => by obtain ⟨rfl, hp⟩ := hp; exact kk H1 locs1 hp h1 h2 h3
theorem z_callX {P : Nat → Heap → Prop} (hr : vx_Run p l e R s m args below meth c H locs cells slots mc ms (F0 m pc ls st0) rest (zQ (fun r H1 => ∃ x, r = some (.ref x) ∧ P x H1) A1 av) (zX (fun _ => False)) A1) (hS : va_S A0 H0 H locs) (hA : ∀ q, A1 q → A0 q)
    (kk : ∀ (x : Nat) (H1 : Heap) (locs1 : List Loc), P x H1 → H.size ≤ H1.size → (∀ q : Nat, q < H.size → ¬ A1 q → H1[q]? = H[q]?) → va_S A0 H0 H1 locs1 → W p l e R s m args below meth c H1 locs1 (cells + mc) (slots + ms) Q (F0 m (pc + 3) ls (.ref x :: rest))) : W p l e R s m args below meth c H locs cells slots Q (F0 m pc ls st0) :=
  z_call0 hr hS hA fun r H1 locs1 hp h1 h2 h3 => by obtain ⟨x, rfl, hp⟩ := hp; exact kk x H1 locs1 hp h1 h2 h3
/-- the same, where the callee may throw and the throw goes on -/
theorem z_callPV {P : Heap → Prop} {mc0 ms0 : Nat} {Qc : Array Value → State → Outcome → State → Prop} (hr : vx_Run p l e R s m args below meth c H locs cells slots mc ms (F0 m pc ls st0) rest (zQ (fun r H1 => r = none ∧ P H1) A1 av) (zX xp) A1) (hS : va_S A0 s.heap H locs) (hA : ∀ q, A1 q → A0 q)
    (hN : ∀ q : Nat, q < s.heap.size → H[q]? = s.heap[q]?) (htab : ∀ x ∈ c.exceptionTable.toList, False) (hlocks : meth.locks = false) (hxp : ∀ E, xp E → xp0 E) (hc : cells + mc ≤ mc0) (hs : slots + ms ≤ ms0)
    (kk : ∀ (H1 : Heap) (locs1 : List Loc), P H1 → H.size ≤ H1.size → (∀ q : Nat, q < H.size → ¬ A1 q → H1[q]? = H[q]?) → va_S A0 s.heap H1 locs1 → W p l e R s m args below meth c H1 locs1 (cells + mc) (slots + ms) (vx_MQ below Qc (zX xp0) args s mc0 ms0 A0) (F0 m (pc + 3) ls rest)) : W p l e R s m args below meth c H locs cells slots (vx_MQ below Qc (zX xp0) args s mc0 ms0 A0) (F0 m pc ls st0) :=
  z_callP (rest2 := []) hr hS hA hN htab hlocks hxp hc hs fun r H1 locs1 hp h1 h2 h3 => by obtain ⟨rfl, hp⟩ := hp; exact kk H1 locs1 hp h1 h2 h3
theorem z_callPR {v : Value} {P : Heap → Prop} {mc0 ms0 : Nat} {Qc : Array Value → State → Outcome → State → Prop} (hr : vx_Run p l e R s m args below meth c H locs cells slots mc ms (F0 m pc ls st0) rest (zQ (fun r H1 => r = some v ∧ P H1) A1 av) (zX xp) A1) (hS : va_S A0 s.heap H locs) (hA : ∀ q, A1 q → A0 q)
    (hN : ∀ q : Nat, q < s.heap.size → H[q]? = s.heap[q]?) (htab : ∀ x ∈ c.exceptionTable.toList, False) (hlocks : meth.locks = false) (hxp : ∀ E, xp E → xp0 E) (hc : cells + mc ≤ mc0) (hs : slots + ms ≤ ms0)
    (kk : ∀ (H1 : Heap) (locs1 : List Loc), P H1 → H.size ≤ H1.size → (∀ q : Nat, q < H.size → ¬ A1 q → H1[q]? = H[q]?) → va_S A0 s.heap H1 locs1 → W p l e R s m args below meth c H1 locs1 (cells + mc) (slots + ms) (vx_MQ below Qc (zX xp0) args s mc0 ms0 A0) (F0 m (pc + 3) ls (v :: rest))) : W p l e R s m args below meth c H locs cells slots (vx_MQ below Qc (zX xp0) args s mc0 ms0 A0) (F0 m pc ls st0) :=
  z_callP (rest2 := []) hr hS hA hN htab hlocks hxp hc hs fun r H1 locs1 hp h1 h2 h3 => by obtain ⟨rfl, hp⟩ := hp; exact kk H1 locs1 hp h1 h2 h3
theorem z_callPX {P : Nat → Heap → Prop} {mc0 ms0 : Nat} {Qc : Array Value → State → Outcome → State → Prop} (hr : vx_Run p l e R s m args below meth c H locs cells slots mc ms (F0 m pc ls st0) rest (zQ (fun r H1 => ∃ x, r = some (.ref x) ∧ P x H1) A1 av) (zX xp) A1) (hS : va_S A0 s.heap H locs) (hA : ∀ q, A1 q → A0 q)
    (hN : ∀ q : Nat, q < s.heap.size → H[q]? = s.heap[q]?) (htab : ∀ x ∈ c.exceptionTable.toList, False) (hlocks : meth.locks = false) (hxp : ∀ E, xp E → xp0 E) (hc : cells + mc ≤ mc0) (hs : slots + ms ≤ ms0)
    (kk : ∀ (x : Nat) (H1 : Heap) (locs1 : List Loc), P x H1 → H.size ≤ H1.size → (∀ q : Nat, q < H.size → ¬ A1 q → H1[q]? = H[q]?) → va_S A0 s.heap H1 locs1 → W p l e R s m args below meth c H1 locs1 (cells + mc) (slots + ms) (vx_MQ below Qc (zX xp0) args s mc0 ms0 A0) (F0 m (pc + 3) ls (.ref x :: rest))) : W p l e R s m args below meth c H locs cells slots (vx_MQ below Qc (zX xp0) args s mc0 ms0 A0) (F0 m pc ls st0) :=
  z_callP (rest2 := []) hr hS hA hN htab hlocks hxp hc hs fun r H1 locs1 hp h1 h2 h3 => by obtain ⟨x, rfl, hp⟩ := hp; exact kk x H1 locs1 hp h1 h2 h3
end ZV
/-- what a constructor may write: its object, and new cells -/
def zO1 (h0 : Nat) (H0 : Heap) : Nat → Prop := fun q => q = h0 ∨ H0.size ≤ q
theorem zO1_le {h0 : Nat} {H0 H : Heap} {locs : List Loc} {A : Nat → Prop} (h : A h0) (hA : ∀ q, H0.size ≤ q → A q) (hS : va_S A H0 H locs) : ∀ q, zO1 h0 H q → A q := fun q hq => hq.elim (fun e => e ▸ h) (fun h2 => hA q (Nat.le_trans hS.1 h2))
theorem z_catr (a : Nat) : (Value.ref a).category = 1 := rfl
theorem z_cati (a : Int32) : (Value.int a).category = 1 := rfl
