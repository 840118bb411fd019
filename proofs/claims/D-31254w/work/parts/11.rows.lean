set_option maxRecDepth 100000
section ZR
variable {p : Program} {l : Launch} {e : Env} {R : Room} {s : State} {m : MethodId} {args : Array Value} {below : List Frame} {meth : Method} {c : Code} {H : Heap} {locs : List Loc} {cells slots : Nat} {Q : State → Prop}
variable {cc : ByteArray} {pc : Nat} {ls : Array Slot} {rest : List Value} {G : zG} {A : Nat → Prop} {H0 : Heap} {a : Nat}
theorem z_single {q : Nat × va_E} {D : va_G} (h : va_at D zcl q H) : va_P D zcl [q] H := fun k q' hk => by
  cases k with
  | zero => cases hk; exact h
  | succ k => simp at hk
theorem z_get (hexec : p.tables.exec = Jvm.exec) (hb : c.code = cc) {own ref C : String} {T : u_T} {N ci index : Nat} (hts : ∀ w ∈ lw_all, w.before args s = true) (hin : ∀ w ∈ u_ws C T N, w ∈ lw_all) (hown : s.vm.findClass own = some m.cls) (hK : zK G A s) {fs : List Value} (ho : zO G H a ci fs) (hc : zcl[ci]? = some (C, T, N)) (k : Nat) (hk : k < N) (hlink : (Cond.fieldLink own index ref (T k).2.1 (T k).2.2.1) ∈ lw_all) (hsame : (T k).1 = ref) {v : Value} (hv : fs[k]? = some v) (hdg : decode cc pc = .ok (.getfield index, 3))
    (kk : W p l e R s m args below meth c H locs cells slots Q (F0 m (pc + 3) ls (v :: rest))) : W p l e R s m args below meth c H locs cells slots Q (F0 m pc ls (.ref a :: rest)) :=
  va_get hexec hb hts hin hown hK.1 (z_single ho) 0 rfl hc k hk (hts _ hlink) (fun x h => by rw [← hsame]; exact h) hv hdg kk
theorem z_getN (hexec : p.tables.exec = Jvm.exec) (hb : c.code = cc) {own ref C host : String} {T : u_T} {N ci index : Nat} (hts : ∀ w ∈ lw_all, w.before args s = true) (hin : ∀ w ∈ u_ws C T N, w ∈ lw_all) (hown : s.vm.findClass own = some m.cls) (hK : zK G A s) {fs : List Value} (ho : zO G H a ci fs) (hc : zcl[ci]? = some (C, T, N)) (k : Nat) (hk : k < N) (hlink : (Cond.fieldLinkNest own index ref (T k).2.1 (T k).2.2.1 host) ∈ lw_tbl) (hsame : (T k).1 = ref) {v : Value} (hv : fs[k]? = some v) (hdg : decode cc pc = .ok (.getfield index, 3))
    (kk : W p l e R s m args below meth c H locs cells slots Q (F0 m (pc + 3) ls (v :: rest))) : W p l e R s m args below meth c H locs cells slots Q (F0 m pc ls (.ref a :: rest)) :=
  va_getN hexec hb hts hin hown hK.1 (z_single ho) 0 rfl hc k hk (va_Nw.use rfl (hK.2.1 _ hlink rfl)) (fun x h => by rw [← hsame]; exact h) hv hdg kk
/-- a cell written: what is there now, and that all else stays -/
theorem z_put (hexec : p.tables.exec = Jvm.exec) (hb : c.code = cc) {own ref C : String} {T : u_T} {N ci index : Nat} (hts : ∀ w ∈ lw_all, w.before args s = true) (hin : ∀ w ∈ u_ws C T N, w ∈ lw_all) (ty0 : Nat → FieldType) (hty : ∀ k, k < N → parseFieldDescriptor (T k).2.2.1 = some (ty0 k)) (hnm : ∀ a, a < N → ∀ b, b < N → a ≠ b → (T a).2.1 ≠ (T b).2.1) (hown : s.vm.findClass own = some m.cls) (hK : zK G A s) {fs : List Value} (ho : zO G H a ci fs) (hAa : A a) (hS : va_S A H0 H locs) (hc : zcl[ci]? = some (C, T, N)) (k : Nat) (hk : k < N) (hlink : (Cond.fieldLink own index ref (T k).2.1 (T k).2.2.1) ∈ lw_all) (hsame : (T k).1 = ref) (hfin : (T k).2.2.2 = false) {v : Value} (hn : narrow (ty0 k) v = v) (hfit : fits (ty0 k) v = true) (hl : k < fs.length)
    (hdg : decode cc pc = .ok (.putfield index, 3)) (kk : ∀ (H1 : Heap) (locs1 : List Loc), zO G H1 a ci (fs.set k v) → H1.size = H.size → (∀ q : Nat, q ≠ a → H1[q]? = H[q]?) → va_S A H0 H1 locs1 → W p l e R s m args below meth c H1 locs1 cells slots Q (F0 m (pc + 3) ls rest)) : W p l e R s m args below meth c H locs cells slots Q (F0 m pc ls (v :: .ref a :: rest)) := by
  have hap := va_apart (own := own) hts hin ty0 hty hnm hK.1 hc
  obtain ⟨r, h1, cell, q1, q2, q3, q4⟩ := ho
  have hr : r = (C, T, N) := Option.some.inj (h1.symm.trans hc)
  subst hr
  obtain ⟨hS1, hfc, kC, hkC, hkind⟩ := hK.1.1 ci _ hc
  obtain ⟨cf, kf, fi, f, hi, hsl⟩ := hS1 k hk
  have hlay := hts _ (hin _ (u_in_lay hk))
  unfold u_lay at hlay
  rw [if_neg (by rw [hfin]; decide)] at hlay
  have hst := (u_facts hfc hkC (u_lays hts hin hk) hi).1
  have h6 := u_store hfc hkC hkind hlay hi (hty k hk) hn hfit
  subst hsame
  refine W.putK hexec hb (f := f) ⟨hown, hts _ hlink, ⟨_, _, _, hi⟩, hst⟩ (by rw [q2]; exact h6) q1 q3 (by rw [hsl]; exact k2_hasslot (q4 k hk)) rfl rfl hdg fun H' e1 e2 e3 => ?_
  rw [hsl] at e1 ⊢
  exact kk H' _ ⟨_, hc, t_OB.to (V := updV (vp_V fs) k v) ⟨_, e1, q2, q3, t_set q4 hap hk v⟩ (fun j _ => vp_updV_set hl v j)⟩ e2 e3 (hS.put e2 e3 hAa)
theorem z_putN (hexec : p.tables.exec = Jvm.exec) (hb : c.code = cc) {own ref C host : String} {T : u_T} {N ci index : Nat} (hts : ∀ w ∈ lw_all, w.before args s = true) (hin : ∀ w ∈ u_ws C T N, w ∈ lw_all) (ty0 : Nat → FieldType) (hty : ∀ k, k < N → parseFieldDescriptor (T k).2.2.1 = some (ty0 k)) (hnm : ∀ a, a < N → ∀ b, b < N → a ≠ b → (T a).2.1 ≠ (T b).2.1) (hown : s.vm.findClass own = some m.cls) (hK : zK G A s) {fs : List Value} (ho : zO G H a ci fs) (hAa : A a) (hS : va_S A H0 H locs) (hc : zcl[ci]? = some (C, T, N)) (k : Nat) (hk : k < N) (hlink : (Cond.fieldLinkNest own index ref (T k).2.1 (T k).2.2.1 host) ∈ lw_tbl) (hsame : (T k).1 = ref) (hfin : (T k).2.2.2 = false) {v : Value} (hn : narrow (ty0 k) v = v) (hfit : fits (ty0 k) v = true) (hl : k < fs.length)
    (hdg : decode cc pc = .ok (.putfield index, 3)) (kk : ∀ (H1 : Heap) (locs1 : List Loc), zO G H1 a ci (fs.set k v) → H1.size = H.size → (∀ q : Nat, q ≠ a → H1[q]? = H[q]?) → va_S A H0 H1 locs1 → W p l e R s m args below meth c H1 locs1 cells slots Q (F0 m (pc + 3) ls rest)) : W p l e R s m args below meth c H locs cells slots Q (F0 m pc ls (v :: .ref a :: rest)) := by
  have hap := va_apart (own := own) hts hin ty0 hty hnm hK.1 hc
  obtain ⟨r, h1, cell, q1, q2, q3, q4⟩ := ho
  have hr : r = (C, T, N) := Option.some.inj (h1.symm.trans hc)
  subst hr
  obtain ⟨hS1, hfc, kC, hkC, hkind⟩ := hK.1.1 ci _ hc
  obtain ⟨cf, kf, fi, f, hi, hsl⟩ := hS1 k hk
  have hlay := hts _ (hin _ (u_in_lay hk))
  unfold u_lay at hlay
  rw [if_neg (by rw [hfin]; decide)] at hlay
  have hst := (u_facts hfc hkC (u_lays hts hin hk) hi).1
  have h6 := u_store hfc hkC hkind hlay hi (hty k hk) hn hfit
  subst hsame
  refine va_WputK hexec hb (f := f) hown (va_Nw.use rfl (hK.2.1 _ hlink rfl)) hi hst (by rw [q2]; exact h6) q1 q3 (by rw [hsl]; exact k2_hasslot (q4 k hk)) rfl rfl hdg fun H' e1 e2 e3 => ?_
  rw [hsl] at e1 ⊢
  exact kk H' _ ⟨_, hc, t_OB.to (V := updV (vp_V fs) k v) ⟨_, e1, q2, q3, t_set q4 hap hk v⟩ (fun j _ => vp_updV_set hl v j)⟩ e2 e3 (hS.put e2 e3 hAa)
theorem z_putF (hexec : p.tables.exec = Jvm.exec) (hb : c.code = cc) {own C : String} {T : u_T} {N ci index : Nat} (hts : ∀ w ∈ lw_all, w.before args s = true) (hin : ∀ w ∈ u_ws C T N, w ∈ lw_all) (ty0 : Nat → FieldType) (hty : ∀ k, k < N → parseFieldDescriptor (T k).2.2.1 = some (ty0 k)) (hnm : ∀ a, a < N → ∀ b, b < N → a ≠ b → (T a).2.1 ≠ (T b).2.1) (hown : s.vm.findClass own = some m.cls) (hK : zK G A s) {fs : List Value} (ho : zO G H a ci fs) (hAa : A a) (hS : va_S A H0 H locs) (hc : zcl[ci]? = some (C, T, N)) (k : Nat) (hk : k < N) (hlink : (Cond.fieldLink own index own (T k).2.1 (T k).2.2.1) ∈ lw_all) (hfin : (T k).2.2.2 = true) (hin2 : meth.name = "<init>") (hdecl : (T k).1 = own) {v : Value} (hn : narrow (ty0 k) v = v) (hfit : fits (ty0 k) v = true) (hl : k < fs.length)
    (hdg : decode cc pc = .ok (.putfield index, 3)) (kk : ∀ (H1 : Heap) (locs1 : List Loc), zO G H1 a ci (fs.set k v) → H1.size = H.size → (∀ q : Nat, q ≠ a → H1[q]? = H[q]?) → va_S A H0 H1 locs1 → W p l e R s m args below meth c H1 locs1 cells slots Q (F0 m (pc + 3) ls rest)) : W p l e R s m args below meth c H locs cells slots Q (F0 m pc ls (v :: .ref a :: rest)) := by
  have hap := va_apart (own := own) hts hin ty0 hty hnm hK.1 hc
  obtain ⟨r, h1, cell, q1, q2, q3, q4⟩ := ho
  have hr : r = (C, T, N) := Option.some.inj (h1.symm.trans hc)
  subst hr
  obtain ⟨hS1, hfc, kC, hkC, hkind⟩ := hK.1.1 ci _ hc
  obtain ⟨cf, kf, fi, f, hi, hsl⟩ := hS1 k hk
  have hlay := hts _ (hin _ (u_in_lay hk))
  unfold u_lay at hlay
  rw [if_pos hfin] at hlay
  have hst := (u_facts hfc hkC (u_lays hts hin hk) hi).1
  have hcf : m.cls = cf := by
    obtain ⟨_, _, c', _, _, _, -, -, hf', -, -, -, hown2, -⟩ := Cond.laysFinal_spec hlay
    have e1 : c' = cf := by have := hi.symm.trans hf'; simp at this; exact this.1.symm
    rw [hdecl] at hown2
    rw [← e1]; exact Option.some.inj (hown.symm.trans hown2)
  have h6 := u_fits hfc hkC hkind (Or.inr hlay) hi (hty k hk) hn hfit
  subst hdecl
  refine W.putFinK hexec hb hown (hts _ hlink) hi hst hcf hin2 (by rw [q2]; exact h6) q1 q3 (by rw [hsl]; exact k2_hasslot (q4 k hk)) rfl rfl hdg fun H' e1 e2 e3 => ?_
  rw [hsl] at e1 ⊢
  exact kk H' _ ⟨_, hc, t_OB.to (V := updV (vp_V fs) k v) ⟨_, e1, q2, q3, t_set q4 hap hk v⟩ (fun j _ => vp_updV_set hl v j)⟩ e2 e3 (hS.put e2 e3 hAa)
theorem z_ild (hexec : p.tables.exec = Jvm.exec) (hb : c.code = cc) (hK : zK G A s) {n : Nat} {f : Nat → Int32} (ha : zAI G H a n f) {i : Int} (h0 : 0 ≤ i) (h1 : i < n) (hn : n ≤ 2147483648) (hdg : decode cc pc = .ok (.iaload, 1))
    (kk : W p l e R s m args below meth c H locs cells slots Q (F0 m (pc + 1) ls (.int (f i.toNat) :: rest))) : W p l e R s m args below meth c H locs cells slots Q (F0 m pc ls (.int (iI i) :: .ref a :: rest)) := by
  refine va_iald hexec hb hK.1 (z_single ha) 0 0 rfl rfl (iI_in h0 h1 hn) hdg ?_
  rw [iI_clamp h0 (by omega)]
  exact kk
theorem z_ist (hexec : p.tables.exec = Jvm.exec) (hb : c.code = cc) (hK : zK G A s) {n : Nat} {f : Nat → Int32} (ha : zAI G H a n f) (hAa : A a) (hS : va_S A H0 H locs) {i : Int} {x : Int32} (h0 : 0 ≤ i) (h1 : i < n) (hn : n ≤ 2147483648) (hdg : decode cc pc = .ok (.iastore, 1))
    (kk : ∀ (H1 : Heap) (locs1 : List Loc), zAI G H1 a n (upd f i.toNat x) → H1.size = H.size → (∀ q : Nat, q ≠ a → H1[q]? = H[q]?) → va_S A H0 H1 locs1 → W p l e R s m args below meth c H1 locs1 cells slots Q (F0 m (pc + 1) ls rest)) : W p l e R s m args below meth c H locs cells slots Q (F0 m pc ls (.int x :: .int (iI i) :: .ref a :: rest)) := by
  refine W.iast hexec hb ha ((hK.1.2 0 _ rfl).1 n (fun j => .int (f j))) (fun q => by cases q) (by show ¬ (iI i < 0 ∨ (arrV _ _ _).slots.size ≤ _); rw [arrV_size]; exact iI_in h0 h1 hn) rfl rfl hdg fun H1 e z oq => ?_
  refine kk H1 _ ?_ z oq (hS.put z oq hAa)
  show H1[a]? = some (vp_cell _ _)
  rw [e, vp_cell_i, vp_cell_i, arrV_store, iI_clamp h0 (by omega)]
  congr 2
  funext q
  by_cases hq : q = i.toNat
  · subst hq
    simp [updV, upd]
  · simp [updV, upd, hq]
theorem z_lst (hexec : p.tables.exec = Jvm.exec) (hb : c.code = cc) (hK : zK G A s) {n : Nat} {f : Nat → Int64} (ha : zAL G H a n f) (hAa : A a) (hS : va_S A H0 H locs) {i : Int} {x : Int64} (h0 : 0 ≤ i) (h1 : i < n) (hn : n ≤ 2147483648) (hdg : decode cc pc = .ok (.lastore, 1))
    (kk : ∀ (H1 : Heap) (locs1 : List Loc), zAL G H1 a n (vp_updL f i.toNat x) → H1.size = H.size → (∀ q : Nat, q ≠ a → H1[q]? = H[q]?) → va_S A H0 H1 locs1 → W p l e R s m args below meth c H1 locs1 cells slots Q (F0 m (pc + 1) ls rest)) : W p l e R s m args below meth c H locs cells slots Q (F0 m pc ls (.long x :: .int (iI i) :: .ref a :: rest)) := by
  refine W.last hexec hb ha ((hK.1.2 2 _ rfl).1 n (fun j => .long (f j))) (fun q => by cases q) (by show ¬ (iI i < 0 ∨ (arrV _ _ _).slots.size ≤ _); rw [arrV_size]; exact iI_in h0 h1 hn) rfl rfl hdg fun H1 e z oq => ?_
  refine kk H1 _ ?_ z oq (hS.put z oq hAa)
  show H1[a]? = some (vp_cell _ _)
  rw [e, vp_cell_l, vp_cell_l, arrV_store, iI_clamp h0 (by omega)]
  congr 2
  funext q
  by_cases hq : q = i.toNat
  · subst hq
    simp [updV, vp_updL]
  · simp [updV, vp_updL, hq]
theorem z_lld (hexec : p.tables.exec = Jvm.exec) (hb : c.code = cc) (hK : zK G A s) {n : Nat} {f : Nat → Int64} (ha : zAL G H a n f) {i : Int} (h0 : 0 ≤ i) (h1 : i < n) (hn : n ≤ 2147483648) (hdg : decode cc pc = .ok (.laload, 1))
    (kk : W p l e R s m args below meth c H locs cells slots Q (F0 m (pc + 1) ls (.long (f i.toNat) :: rest))) : W p l e R s m args below meth c H locs cells slots Q (F0 m pc ls (.int (iI i) :: .ref a :: rest)) := by
  refine va_lald hexec hb hK.1 (z_single ha) 0 2 rfl rfl (iI_in h0 h1 hn) hdg ?_
  rw [iI_clamp h0 (by omega)]
  exact kk
theorem z_ald (hexec : p.tables.exec = Jvm.exec) (hb : c.code = cc) (hK : zK G A s) {n : Nat} {f : Nat → Option Nat} (ha : zAO G H a n f) {i : Int} (h0 : 0 ≤ i) (h1 : i < n) (hn : n ≤ 2147483648) (hdg : decode cc pc = .ok (.aaload, 1))
    (kk : W p l e R s m args below meth c H locs cells slots Q (F0 m (pc + 1) ls (va_rf (f i.toNat) :: rest))) : W p l e R s m args below meth c H locs cells slots Q (F0 m pc ls (.int (iI i) :: .ref a :: rest)) := by
  refine va_aldq hexec hb hK.1 (z_single ha) 0 1 rfl rfl (iI_in h0 h1 hn) hdg ?_
  rw [iI_clamp h0 (by omega)]
  exact kk
/-- any object of the claim's classes may lie in a row of Object -/
theorem z_any {ci : Nat} {fs : List Value} {q : vw_C} {v : Nat} (hK : zK G A s) (ho : zO G H v ci fs) (hc : zcl[ci]? = some q) (hw : (Cond.castable q.1 "java/lang/Object") ∈ lw_tbl) : va_Any "java/lang/Object" s H v := by
  refine va_rAny hK.1 (z_single ho) (q0 := 0) rfl hc fun comp c0 h1 h2 => ?_
  obtain ⟨c3, c4, g1, g2, g3⟩ := Cond.castable_spec (hK.2.1 _ hw rfl)
  cases h1.symm.trans g2
  cases h2.symm.trans g1
  exact g3
theorem z_ast (hexec : p.tables.exec = Jvm.exec) (hb : c.code = cc) (hK : zK G A s) {n v : Nat} {f : Nat → Option Nat} (ha : zAO G H a n f) (hAa : A a) (hS : va_S A H0 H locs) (hv : va_Any "java/lang/Object" s H v) {i : Int} (h0 : 0 ≤ i) (h1 : i < n) (hn : n ≤ 2147483648) (hdg : decode cc pc = .ok (.aastore, 1))
    (kk : ∀ (H1 : Heap) (locs1 : List Loc), zAO G H1 a n (va_up f i.toNat (some v)) → H1.size = H.size → (∀ q : Nat, q ≠ a → H1[q]? = H[q]?) → va_S A H0 H1 locs1 → W p l e R s m args below meth c H1 locs1 cells slots Q (F0 m (pc + 1) ls rest)) : W p l e R s m args below meth c H locs cells slots Q (F0 m pc ls (.ref v :: .int (iI i) :: .ref a :: rest)) := by
  obtain ⟨cellV, g1, g3, ⟨kC, hkC⟩, hasg⟩ := hv
  obtain ⟨kA, comp, k1, k2, k3, -⟩ := (hK.1.2 1 _ rfl).2
  obtain ⟨kE, hkE, -⟩ := Vm.findClass_spec k3
  have hi := iI_in h0 h1 hn
  refine W.aast hexec hb ha (fun q h => by cases h) (fun h => by cases h) k1 k2 rfl hkE ⟨fun q => hi (Or.inl q), by show _ < (arrV _ _ _).slots.size; rw [arrV_size]; exact Nat.not_le.mp fun q => hi (Or.inr q)⟩ g1 (fun q h => by rw [h] at g3; cases g3) hkC (hasg _ k3) rfl rfl hdg fun H1 e z oq => ?_
  refine kk H1 _ ?_ z oq (hS.put z oq hAa)
  show H1[a]? = some (vp_cell _ _)
  rw [e, vp_cell_q, vp_cell_q, arrV_store, iI_clamp h0 (by omega)]
  congr 2
  funext q
  by_cases hq : q = i.toNat
  · subst hq
    simp [updV, va_up, va_rf]
  · simp [updV, va_up, hq]
theorem z_astN (hexec : p.tables.exec = Jvm.exec) (hb : c.code = cc) (hK : zK G A s) {n : Nat} {f : Nat → Option Nat} (ha : zAO G H a n f) (hAa : A a) (hS : va_S A H0 H locs) {i : Int} (h0 : 0 ≤ i) (h1 : i < n) (hn : n ≤ 2147483648) (hdg : decode cc pc = .ok (.aastore, 1))
    (kk : ∀ (H1 : Heap) (locs1 : List Loc), zAO G H1 a n (va_up f i.toNat none) → H1.size = H.size → (∀ q : Nat, q ≠ a → H1[q]? = H[q]?) → va_S A H0 H1 locs1 → W p l e R s m args below meth c H1 locs1 cells slots Q (F0 m (pc + 1) ls rest)) : W p l e R s m args below meth c H locs cells slots Q (F0 m pc ls (.null :: .int (iI i) :: .ref a :: rest)) := by
  have hi := iI_in h0 h1 hn
  refine va_WaastN (C := "java/lang/Object") hexec hb ha ((hK.1.2 1 _ rfl).1 n (fun j => va_rf (f j))) (fun h => by cases h) (by show ¬ (iI i < 0 ∨ (arrV _ _ _).slots.size ≤ _); rw [arrV_size]; exact hi) rfl rfl hdg fun H1 e z oq => ?_
  refine kk H1 _ ?_ z oq (hS.put z oq hAa)
  show H1[a]? = some (vp_cell _ _)
  rw [e, vp_cell_q, vp_cell_q, arrV_store, iI_clamp h0 (by omega)]
  congr 2
  funext q
  by_cases hq : q = i.toNat
  · subst hq
    simp [updV, va_up, va_rf]
  · simp [updV, va_up, hq]
theorem va_S.push {A : Nat → Prop} {H0 H H1 : Heap} {locs : List Loc} (h : va_S A H0 H locs) (z : H1.size = H.size + 1) (oq : ∀ q : Nat, q < H.size → H1[q]? = H[q]?) : va_S A H0 H1 locs :=
  ⟨Nat.le_trans h.1 (by omega), fun x h1 h2 => (oq x (Nat.lt_of_lt_of_le h1 h.1)).trans (h.2.1 x h1 h2), h.2.2⟩
theorem z_new (hexec : p.tables.exec = Jvm.exec) (hb : c.code = cc) {own C : String} {T : u_T} {N ci index : Nat} (hts : ∀ w ∈ lw_all, w.before args s = true) (hin : ∀ w ∈ u_ws C T N, w ∈ lw_all) (ty : Nat → FieldType) (hty : ∀ k, k < N → parseFieldDescriptor (T k).2.2.1 = some (ty k)) (hown : s.vm.findClass own = some m.cls) (hcl : (Cond.classLink own index C) ∈ lw_all) (hinst : (Cond.instantiable C N) ∈ lw_all) (hini : (Cond.initialized C) ∈ lw_all)
    (hK : zK G A s) (hS : va_S A H0 H locs) (hc : zcl[ci]? = some (C, T, N)) {fs : List Value} (hfs : ∀ j, j < N → defaultValue (ty j) = vp_V fs j) (hcells : cells + 1 ≤ R.cells) (hslots : slots + N ≤ R.slots) (hdg : decode cc pc = .ok (.new index, 3))
    (kk : ∀ (H1 : Heap), zO G H1 H.size ci fs → H1.size = H.size + 1 → (∀ q : Nat, q < H.size → H1[q]? = H[q]?) → va_S A H0 H1 locs →
      W p l e R s m args below meth c H1 locs (cells + 1) (slots + N) Q (F0 m (pc + 3) ls (.ref H.size :: rest))) : W p l e R s m args below meth c H locs cells slots Q (F0 m pc ls rest) := by
  have hKn := hK.1.1 ci _ hc
  refine W.newcK hexec hb hown (hts _ hcl) (hts _ hinst) (hts _ hini) rfl hdg hcells hslots hKn.2.1 rfl fun H1 kC hkC e1 z1 o1 => ?_
  exact kk H1 ⟨_, hc, (u_born ty hts hin hKn hkC e1 hty).to hfs⟩ z1 o1 (hS.push z1 o1)
theorem z_same {cA cB : ClassId} {ty : FieldType} (h1 : s.vm.findClass ("[" ++ ty.toString) = some cA) (h2 : s.vm.findClass ("[" ++ ty.toString) = some cB) : cA = cB := Option.some.inj (h1.symm.trans h2)
theorem z_newI (hexec : p.tables.exec = Jvm.exec) (hb : c.code = cc) (hts : ∀ w ∈ lw_all, w.before args s = true) (hK : zK G A s) (hS : va_S A H0 H locs)
    {n : Int} (N : Nat) (hN : n = N) (hN2 : N ≤ 100000000) (hcells : cells + 1 ≤ R.cells) (hslots : slots + N ≤ R.slots) (hdg : decode cc pc = .ok (.newarray .int, 2))
    (kk : ∀ (H1 : Heap), zAI G H1 H.size N (fun _ => 0) → H1.size = H.size + 1 → (∀ q : Nat, q < H.size → H1[q]? = H[q]?) → va_S A H0 H1 locs →
      W p l e R s m args below meth c H1 locs (cells + 1) (slots + N) Q (F0 m (pc + 2) ls (.ref H.size :: rest))) : W p l e R s m args below meth c H locs cells slots Q (F0 m pc ls (.int (iI n) :: rest)) := by
  subst hN
  refine va_newaK (atype := .int) hexec hb (hts _ q1222) rfl hdg rfl (fun h => (iI_in (a := (N : Int)) (n := N + 1) (by omega) (by omega) (by omega)) (Or.inl h)) ((iI_clamp (by omega) (by omega)).trans (by omega)) (by show N * 4 ≤ _; omega) hcells hslots rfl fun H1 cA e1 z1 o1 hAr hNm => ?_
  have hc : cA = G.2.1.1 := z_same (ty := .int) hNm (hK.1.2 0 _ rfl).2
  subst hc
  exact kk H1 e1 z1 o1 (hS.push z1 o1)
theorem z_newL (hexec : p.tables.exec = Jvm.exec) (hb : c.code = cc) (hts : ∀ w ∈ lw_all, w.before args s = true) (hK : zK G A s) (hS : va_S A H0 H locs)
    {n : Int} (N : Nat) (hN : n = N) (hN2 : N ≤ 50000000) (hcells : cells + 1 ≤ R.cells) (hslots : slots + N ≤ R.slots) (hdg : decode cc pc = .ok (.newarray .long, 2))
    (kk : ∀ (H1 : Heap), zAL G H1 H.size N (fun _ => 0) → H1.size = H.size + 1 → (∀ q : Nat, q < H.size → H1[q]? = H[q]?) → va_S A H0 H1 locs →
      W p l e R s m args below meth c H1 locs (cells + 1) (slots + N) Q (F0 m (pc + 2) ls (.ref H.size :: rest))) : W p l e R s m args below meth c H locs cells slots Q (F0 m pc ls (.int (iI n) :: rest)) := by
  subst hN
  refine va_newaK (atype := .long) hexec hb (hts _ q2663) rfl hdg rfl (fun h => (iI_in (a := (N : Int)) (n := N + 1) (by omega) (by omega) (by omega)) (Or.inl h)) ((iI_clamp (by omega) (by omega)).trans (by omega)) (by show N * 8 ≤ _; omega) hcells hslots rfl fun H1 cA e1 z1 o1 hAr hNm => ?_
  have hc : cA = G.2.1.2.2 := z_same (ty := .long) hNm (hK.1.2 2 _ rfl).2
  subst hc
  exact kk H1 e1 z1 o1 (hS.push z1 o1)
theorem z_newA (hexec : p.tables.exec = Jvm.exec) (hb : c.code = cc) {own : String} {index : Nat} (hts : ∀ w ∈ lw_all, w.before args s = true) (hown : s.vm.findClass own = some m.cls) (hclink : (Cond.classLink own index "java/lang/Object") ∈ lw_all) (hK : zK G A s) (hS : va_S A H0 H locs)
    {n : Int} (N : Nat) (hN : n = N) (hN2 : N ≤ 100000000) (hcells : cells + 1 ≤ R.cells) (hslots : slots + N ≤ R.slots) (hdg : decode cc pc = .ok (.anewarray index, 3))
    (kk : ∀ (H1 : Heap), zAO G H1 H.size N (fun _ => none) → H1.size = H.size + 1 → (∀ q : Nat, q < H.size → H1[q]? = H[q]?) → va_S A H0 H1 locs →
      W p l e R s m args below meth c H1 locs (cells + 1) (slots + N) Q (F0 m (pc + 3) ls (.ref H.size :: rest))) : W p l e R s m args below meth c H locs cells slots Q (F0 m pc ls (.int (iI n) :: rest)) := by
  subst hN
  have hn : ¬ iI (N : Int) < 0 := fun h => (iI_in (a := (N : Int)) (n := N + 1) (by omega) (by omega) (by omega)) (Or.inl h)
  have hcl : (iI (N : Int)).toNatClampNeg = N := (iI_clamp (by omega) (by omega)).trans (by omega)
  refine W.anew hexec hb hown (hts _ hclink) (va_AO.use hK.2.2.2.2.1) rfl hdg rfl hn (by rw [hcl]; omega) hcells (by rw [hcl]; exact hslots) fun cA kA comp f1 f2 f3 f4 => ?_
  rw [hcl]
  have hc : cA = G.2.1.2.1 := by
    obtain ⟨kA2, comp2, g1, g2, g3, g4⟩ := (hK.1.2 1 _ rfl).2
    exact z_same (ty := .object "java/lang/Object") f1 g4
  subst hc
  generalize hH1 : H.push ({ cls := G.2.1.2.1, slots := Array.replicate N .null, vm := .none } : Cell) = H1
  have z1 : H1.size = H.size + 1 := by rw [← hH1, Array.size_push]
  have o1 : ∀ q : Nat, q < H.size → H1[q]? = H[q]? := fun q hq => by rw [← hH1, Array.getElem?_push, if_neg (Nat.ne_of_lt hq)]
  refine kk H1 ?_ z1 o1 (hS.push z1 o1)
  show H1[H.size]? = some (vp_cell _ _)
  rw [vp_cell_q, ← hH1, Array.getElem?_push_size, ← arrV_new]
  rfl
theorem z_alenI (hexec : p.tables.exec = Jvm.exec) (hb : c.code = cc) (hK : zK G A s) {n : Nat} {f : Nat → Int32} (ha : zAI G H a n f) (hdg : decode cc pc = .ok (.arraylength, 1))
    (kk : W p l e R s m args below meth c H locs cells slots Q (F0 m (pc + 1) ls (.int (iI n) :: rest))) : W p l e R s m args below meth c H locs cells slots Q (F0 m pc ls (.ref a :: rest)) :=
  va_alen hexec hb hK.1 (z_single ha) 0 0 rfl rfl (iI_nat n).symm hdg kk
theorem z_alenA (hexec : p.tables.exec = Jvm.exec) (hb : c.code = cc) (hK : zK G A s) {n : Nat} {f : Nat → Option Nat} (ha : zAO G H a n f) (hdg : decode cc pc = .ok (.arraylength, 1))
    (kk : W p l e R s m args below meth c H locs cells slots Q (F0 m (pc + 1) ls (.int (iI n) :: rest))) : W p l e R s m args below meth c H locs cells slots Q (F0 m pc ls (.ref a :: rest)) :=
  va_alen hexec hb hK.1 (z_single ha) 0 1 rfl rfl (iI_nat n).symm hdg kk
end ZR
