set_option maxRecDepth 100000
/-! THE REFERENCE's five cells, as functions of Int -/
def zup (f : Int → Int) (i x : Int) : Int → Int := fun j => if j = i then x else f j
theorem zup_s (f : Int → Int) (i x : Int) : zup f i x i = x := by simp [zup]
theorem zup_n {f : Int → Int} {i x j : Int} (h : j ≠ i) : zup f i x j = f j := by simp [zup, h]
theorem zup_R {f : Int → Int} {i x : Int} (hf : ∀ k, inR (f k)) (hx : inR x) : ∀ k, inR (zup f i x k) := by
  intro k
  unfold zup
  split
  · exact hx
  · exact hf k
abbrev zF (f : Int → Int) : Nat → Int32 := fun k => iI (f (k : Int))
theorem zF_up (f : Int → Int) {i x : Int} (h : 0 ≤ i) : upd (zF f) i.toNat (iI x) = zF (zup f i x) := by
  funext q
  unfold upd zF zup
  by_cases hq : q = i.toNat
  · rw [if_pos hq, if_pos (by omega)]
  · rw [if_neg hq, if_neg (by omega)]
theorem zF_at (f : Int → Int) {i : Int} (h : 0 ≤ i) : zF f i.toNat = iI (f i) := by
  unfold zF
  rw [show ((i.toNat : Nat) : Int) = i by omega]
theorem zF_0 : (fun _ => (0 : Int32)) = zF (fun _ => 0) := rfl
abbrev zTau : Type := Nat × Nat × Nat × Nat × Nat
/-- the cells of the reference -/
def zTA (t : zTau) : Nat → Prop := fun q => q = t.1 ∨ q = t.2.1 ∨ q = t.2.2.1 ∨ q = t.2.2.2.1 ∨ q = t.2.2.2.2
def zTd (t : zTau) : Prop := t.1 ≠ t.2.1 ∧ t.1 ≠ t.2.2.1 ∧ t.1 ≠ t.2.2.2.1 ∧ t.1 ≠ t.2.2.2.2 ∧ t.2.1 ≠ t.2.2.1 ∧ t.2.1 ≠ t.2.2.2.1 ∧ t.2.1 ≠ t.2.2.2.2 ∧ t.2.2.1 ≠ t.2.2.2.1 ∧ t.2.2.1 ≠ t.2.2.2.2 ∧ t.2.2.2.1 ≠ t.2.2.2.2
def zT (G : zG) (t : zTau) (w kp lg hr : Int → Int) (ev rd th : Int) (H : Heap) : Prop :=
  zO G H t.1 3 [.ref t.2.1, .ref t.2.2.1, .ref t.2.2.2.1, .ref t.2.2.2.2, .int (iI ev), .int (iI rd), .int (iI th)] ∧
  zAI G H t.2.1 873 (zF w) ∧ zAI G H t.2.2.1 873 (zF kp) ∧ zAI G H t.2.2.2.1 12000 (zF lg) ∧ zAI G H t.2.2.2.2 2000 (zF hr) ∧ zTd t ∧
  (∀ k, inR (w k)) ∧ (∀ k, inR (kp k)) ∧ (∀ k, inR (lg k)) ∧ (∀ k, inR (hr k)) ∧ (0 ≤ ev ∧ ev ≤ 2000) ∧ (rd = 0 ∨ rd = 1)
theorem zT.lt {G : zG} {t : zTau} {w kp lg hr : Int → Int} {ev rd th : Int} {H : Heap} (h : zT G t w kp lg hr ev rd th H) : ∀ q, zTA t q → q < H.size := by
  obtain ⟨h1, h2, h3, h4, h5, -⟩ := h
  intro q hq
  rcases hq with rfl | rfl | rfl | rfl | rfl
  · exact h1.lt
  · exact h2.lt
  · exact h3.lt
  · exact h4.lt
  · exact h5.lt
theorem zT.kept {G : zG} {t : zTau} {w kp lg hr : Int → Int} {ev rd th : Int} {H H1 : Heap} (h : zT G t w kp lg hr ev rd th H) (hq : ∀ q, zTA t q → H1[q]? = H[q]?) : zT G t w kp lg hr ev rd th H1 := by
  obtain ⟨h1, h2, h3, h4, h5, h6⟩ := h
  exact ⟨h1.kept (hq _ (Or.inl rfl)), h2.kept (hq _ (Or.inr (Or.inl rfl))), h3.kept (hq _ (Or.inr (Or.inr (Or.inl rfl)))), h4.kept (hq _ (Or.inr (Or.inr (Or.inr (Or.inl rfl))))), h5.kept (hq _ (Or.inr (Or.inr (Or.inr (Or.inr rfl))))), h6⟩
def zTw (t : zTau) (H0 : Heap) : Nat → Prop := fun q => zTA t q ∨ H0.size ≤ q
section ZT
variable {p : Program} {l : Launch} {e : Env} {R : Room} {s : State} {m : MethodId} {args : Array Value} {below : List Frame} {meth : Method} {c : Code} {H : Heap} {locs : List Loc} {cells slots : Nat} {Q : State → Prop}
variable {cc : ByteArray} {pc : Nat} {ls : Array Slot} {rest st0 : List Value} {G : zG} {A A0 A1 : Nat → Prop} {H0 : Heap} {a : Nat} {t : zTau} {w kp lg hr : Int → Int} {ev rd th : Int}
theorem z_ildZ (hexec : p.tables.exec = Jvm.exec) (hb : c.code = cc) (hK : zK G A s) {n : Nat} {f : Int → Int} (ha : zAI G H a n (zF f)) {i : Int} (h01 : 0 ≤ i ∧ i < n) (hn : n ≤ 2147483648) (hdg : decode cc pc = .ok (.iaload, 1))
    (kk : W p l e R s m args below meth c H locs cells slots Q (F0 m (pc + 1) ls (.int (iI (f i)) :: rest))) : W p l e R s m args below meth c H locs cells slots Q (F0 m pc ls (.int (iI i) :: .ref a :: rest)) :=
  z_ild hexec hb hK ha h01.1 h01.2 hn hdg (by rw [zF_at f h01.1]; exact kk)
theorem zt_st (hexec : p.tables.exec = Jvm.exec) (hb : c.code = cc) (hK : zK G A s) (hT : zT G t w kp lg hr ev rd th H) (hAa : ∀ q, zTA t q → A q) (hS : va_S A H0 H locs) {i x : Int} (h01 : 0 ≤ i ∧ i < 873) (hx : inR x) (hdg : decode cc pc = .ok (.iastore, 1))
    (kk : ∀ (H : Heap) (locs : List Loc), zT G t (zup w i x) kp lg hr ev rd th H → va_S A H0 H locs → W p l e R s m args below meth c H locs cells slots Q (F0 m (pc + 1) ls rest)) : W p l e R s m args below meth c H locs cells slots Q (F0 m pc ls (.int (iI x) :: .int (iI i) :: .ref t.2.1 :: rest)) := by
  obtain ⟨h1, h2, h3, h4, h5, h6, h7, h8⟩ := hT
  refine z_ist hexec hb hK h2 (hAa _ (Or.inr (Or.inl rfl))) hS h01.1 h01.2 (by decide) hdg fun H1 locs1 g1 g2 g3 g4 => ?_
  rw [zF_up w h01.1] at g1
  have d := h6
  exact kk H1 locs1 ⟨h1.kept (g3 _ d.1), g1, h3.kept (g3 _ (Ne.symm d.2.2.2.2.1)), h4.kept (g3 _ (Ne.symm d.2.2.2.2.2.1)), h5.kept (g3 _ (Ne.symm d.2.2.2.2.2.2.1)), h6, zup_R h7 hx, h8⟩ g4
theorem zt_stk (hexec : p.tables.exec = Jvm.exec) (hb : c.code = cc) (hK : zK G A s) (hT : zT G t w kp lg hr ev rd th H) (hAa : ∀ q, zTA t q → A q) (hS : va_S A H0 H locs) {i x : Int} (h01 : 0 ≤ i ∧ i < 873) (hx : inR x) (hdg : decode cc pc = .ok (.iastore, 1))
    (kk : ∀ (H : Heap) (locs : List Loc), zT G t w (zup kp i x) lg hr ev rd th H → va_S A H0 H locs → W p l e R s m args below meth c H locs cells slots Q (F0 m (pc + 1) ls rest)) : W p l e R s m args below meth c H locs cells slots Q (F0 m pc ls (.int (iI x) :: .int (iI i) :: .ref t.2.2.1 :: rest)) := by
  obtain ⟨h1, h2, h3, h4, h5, h6, h7, h8, h9⟩ := hT
  refine z_ist hexec hb hK h3 (hAa _ (Or.inr (Or.inr (Or.inl rfl)))) hS h01.1 h01.2 (by decide) hdg fun H1 locs1 g1 g2 g3 g4 => ?_
  rw [zF_up kp h01.1] at g1
  have d := h6
  exact kk H1 locs1 ⟨h1.kept (g3 _ d.2.1), h2.kept (g3 _ d.2.2.2.2.1), g1, h4.kept (g3 _ (Ne.symm d.2.2.2.2.2.2.2.1)), h5.kept (g3 _ (Ne.symm d.2.2.2.2.2.2.2.2.1)), h6, h7, zup_R h8 hx, h9⟩ g4
theorem zt_stl (hexec : p.tables.exec = Jvm.exec) (hb : c.code = cc) (hK : zK G A s) (hT : zT G t w kp lg hr ev rd th H) (hAa : ∀ q, zTA t q → A q) (hS : va_S A H0 H locs) {i x : Int} (h01 : 0 ≤ i ∧ i < 12000) (hx : inR x) (hdg : decode cc pc = .ok (.iastore, 1))
    (kk : ∀ (H : Heap) (locs : List Loc), zT G t w kp (zup lg i x) hr ev rd th H → va_S A H0 H locs → W p l e R s m args below meth c H locs cells slots Q (F0 m (pc + 1) ls rest)) : W p l e R s m args below meth c H locs cells slots Q (F0 m pc ls (.int (iI x) :: .int (iI i) :: .ref t.2.2.2.1 :: rest)) := by
  obtain ⟨h1, h2, h3, h4, h5, h6, h7, h8, h9, h10⟩ := hT
  refine z_ist hexec hb hK h4 (hAa _ (Or.inr (Or.inr (Or.inr (Or.inl rfl))))) hS h01.1 h01.2 (by decide) hdg fun H1 locs1 g1 g2 g3 g4 => ?_
  rw [zF_up lg h01.1] at g1
  have d := h6
  exact kk H1 locs1 ⟨h1.kept (g3 _ d.2.2.1), h2.kept (g3 _ d.2.2.2.2.2.1), h3.kept (g3 _ d.2.2.2.2.2.2.2.1), g1, h5.kept (g3 _ (Ne.symm d.2.2.2.2.2.2.2.2.2)), h6, h7, h8, zup_R h9 hx, h10⟩ g4
theorem zt_sth (hexec : p.tables.exec = Jvm.exec) (hb : c.code = cc) (hK : zK G A s) (hT : zT G t w kp lg hr ev rd th H) (hAa : ∀ q, zTA t q → A q) (hS : va_S A H0 H locs) {i x : Int} (h01 : 0 ≤ i ∧ i < 2000) (hx : inR x) (hdg : decode cc pc = .ok (.iastore, 1))
    (kk : ∀ (H : Heap) (locs : List Loc), zT G t w kp lg (zup hr i x) ev rd th H → va_S A H0 H locs → W p l e R s m args below meth c H locs cells slots Q (F0 m (pc + 1) ls rest)) : W p l e R s m args below meth c H locs cells slots Q (F0 m pc ls (.int (iI x) :: .int (iI i) :: .ref t.2.2.2.2 :: rest)) := by
  obtain ⟨h1, h2, h3, h4, h5, h6, h7, h8, h9, h10, h11⟩ := hT
  refine z_ist hexec hb hK h5 (hAa _ (Or.inr (Or.inr (Or.inr (Or.inr rfl))))) hS h01.1 h01.2 (by decide) hdg fun H1 locs1 g1 g2 g3 g4 => ?_
  rw [zF_up hr h01.1] at g1
  have d := h6
  exact kk H1 locs1 ⟨h1.kept (g3 _ d.2.2.2.1), h2.kept (g3 _ d.2.2.2.2.2.2.1), h3.kept (g3 _ d.2.2.2.2.2.2.2.2.1), h4.kept (g3 _ d.2.2.2.2.2.2.2.2.2), g1, h6, h7, h8, h9, zup_R h10 hx, h11⟩ g4
theorem zt_keep {fs' : List Value} {ev' rd' th' : Int} {H1 : Heap} (hT : zT G t w kp lg hr ev rd th H) (g1 : zO G H1 t.1 3 fs') (g3 : ∀ q : Nat, q ≠ t.1 → H1[q]? = H[q]?) (e : fs' = [.ref t.2.1, .ref t.2.2.1, .ref t.2.2.2.1, .ref t.2.2.2.2, .int (iI ev'), .int (iI rd'), .int (iI th')]) (he : 0 ≤ ev' ∧ ev' ≤ 2000) (hr' : rd' = 0 ∨ rd' = 1) : zT G t w kp lg hr ev' rd' th' H1 := by
  obtain ⟨h1, h2, h3, h4, h5, h6, h7, h8, h9, h10, h11, h12⟩ := hT
  have d := h6
  subst e
  exact ⟨g1, h2.kept (g3 _ (Ne.symm d.1)), h3.kept (g3 _ (Ne.symm d.2.1)), h4.kept (g3 _ (Ne.symm d.2.2.1)), h5.kept (g3 _ (Ne.symm d.2.2.2.1)), h6, h7, h8, h9, h10, he, hr'⟩
theorem zt_ev {own : String} {index : Nat} (hexec : p.tables.exec = Jvm.exec) (hb : c.code = cc) (hts : ∀ w ∈ lw_all, w.before args s = true) (hown : s.vm.findClass own = some m.cls) (hK : zK G A s) (hlink : (Cond.fieldLink own index (TX4 4).1 (TX4 4).2.1 (TX4 4).2.2.1) ∈ lw_all) (hT : zT G t w kp lg hr ev rd th H) (hAa : ∀ q, zTA t q → A q) (hS : va_S A H0 H locs) {x : Int} (hx : 0 ≤ x ∧ x ≤ 2000) (hdg : decode cc pc = .ok (.putfield index, 3))
    (kk : ∀ (H : Heap) (locs : List Loc), zT G t w kp lg hr x rd th H → va_S A H0 H locs → W p l e R s m args below meth c H locs cells slots Q (F0 m (pc + 3) ls rest)) : W p l e R s m args below meth c H locs cells slots Q (F0 m pc ls (.int (iI x) :: .ref t.1 :: rest)) :=
  z_put hexec hb hts in_X4 tyX4 tyX4_ok nmX4 hown hK hT.1 (hAa _ (Or.inl rfl)) hS rfl 4 (by decide) hlink rfl rfl rfl rfl (by show 4 < 7; decide) hdg fun H1 locs1 g1 _ g3 g4 => kk H1 locs1 (zt_keep hT g1 g3 rfl hx hT.2.2.2.2.2.2.2.2.2.2.2) g4
theorem zt_rd {own : String} {index : Nat} (hexec : p.tables.exec = Jvm.exec) (hb : c.code = cc) (hts : ∀ w ∈ lw_all, w.before args s = true) (hown : s.vm.findClass own = some m.cls) (hK : zK G A s) (hlink : (Cond.fieldLink own index (TX4 5).1 (TX4 5).2.1 (TX4 5).2.2.1) ∈ lw_all) (hT : zT G t w kp lg hr ev rd th H) (hAa : ∀ q, zTA t q → A q) (hS : va_S A H0 H locs) {x : Int} (hx : x = 0 ∨ x = 1) (hdg : decode cc pc = .ok (.putfield index, 3))
    (kk : ∀ (H : Heap) (locs : List Loc), zT G t w kp lg hr ev x th H → va_S A H0 H locs → W p l e R s m args below meth c H locs cells slots Q (F0 m (pc + 3) ls rest)) : W p l e R s m args below meth c H locs cells slots Q (F0 m pc ls (.int (iI x) :: .ref t.1 :: rest)) :=
  z_put hexec hb hts in_X4 tyX4 tyX4_ok nmX4 hown hK hT.1 (hAa _ (Or.inl rfl)) hS rfl 5 (by decide) hlink rfl rfl (by rcases hx with rfl | rfl <;> decide) (by rcases hx with rfl | rfl <;> decide) (by show 5 < 7; decide) hdg fun H1 locs1 g1 _ g3 g4 => kk H1 locs1 (zt_keep hT g1 g3 rfl hT.2.2.2.2.2.2.2.2.2.2.1 hx) g4
theorem zt_th {own : String} {index : Nat} (hexec : p.tables.exec = Jvm.exec) (hb : c.code = cc) (hts : ∀ w ∈ lw_all, w.before args s = true) (hown : s.vm.findClass own = some m.cls) (hK : zK G A s) (hlink : (Cond.fieldLink own index (TX4 6).1 (TX4 6).2.1 (TX4 6).2.2.1) ∈ lw_all) (hT : zT G t w kp lg hr ev rd th H) (hAa : ∀ q, zTA t q → A q) (hS : va_S A H0 H locs) {x : Int} (hdg : decode cc pc = .ok (.putfield index, 3))
    (kk : ∀ (H : Heap) (locs : List Loc), zT G t w kp lg hr ev rd x H → va_S A H0 H locs → W p l e R s m args below meth c H locs cells slots Q (F0 m (pc + 3) ls rest)) : W p l e R s m args below meth c H locs cells slots Q (F0 m pc ls (.int (iI x) :: .ref t.1 :: rest)) :=
  z_put hexec hb hts in_X4 tyX4 tyX4_ok nmX4 hown hK hT.1 (hAa _ (Or.inl rfl)) hS rfl 6 (by decide) hlink rfl rfl rfl rfl (by show 6 < 7; decide) hdg fun H1 locs1 g1 _ g3 g4 => kk H1 locs1 (zt_keep hT g1 g3 rfl hT.2.2.2.2.2.2.2.2.2.2.1 hT.2.2.2.2.2.2.2.2.2.2.2) g4
/-- behind a call that only answers: nothing has changed -/
theorem z_callp {v : Value} {mc ms : Nat} {av : Array Value} (hr : vx_Run p l e R s m args below meth c H locs cells slots mc ms (F0 m pc ls st0) rest (zQ (fun r H1 => r = some v ∧ H1 = H) A1 av) (zX (fun _ => False)) A1) (hS : va_S A0 H0 H locs) (hA : ∀ q, A1 q → A0 q) (hmc : mc = 0) (hms : ms = 0)
    (kk : ∀ (locs : List Loc), va_S A0 H0 H locs → W p l e R s m args below meth c H locs cells slots Q (F0 m (pc + 3) ls (v :: rest))) : W p l e R s m args below meth c H locs cells slots Q (F0 m pc ls st0) := by
  subst hmc; subst hms
  refine z_call0 hr hS hA fun r H1 locs1 hp _ _ hS1 => ?_
  obtain ⟨rfl, rfl⟩ := hp
  exact kk locs1 hS1
end ZT
section ZT2
variable {p : Program} {l : Launch} {e : Env} {R : Room} {s : State} {m : MethodId} {args : Array Value} {below : List Frame} {meth : Method} {c : Code} {H : Heap} {locs : List Loc} {cells slots : Nat} {Q : State → Prop}
variable {cc : ByteArray} {pc : Nat} {ls : Array Slot} {rest st0 : List Value} {G : zG} {A A0 A1 : Nat → Prop} {H0 : Heap} {a : Nat} {t : zTau} {w kp lg hr : Int → Int} {ev rd th : Int}
/-- behind a call that answers v and leaves a world P -/
theorem z_callm {v : Value} {P : Heap → Prop} {mc ms : Nat} {av : Array Value} (hr : vx_Run p l e R s m args below meth c H locs cells slots mc ms (F0 m pc ls st0) rest (zQ (fun r H1 => r = some v ∧ P H1) A1 av) (zX (fun _ => False)) A1) (hS : va_S A0 H0 H locs) (hA : ∀ q, A1 q → A0 q) (hmc : mc = 0) (hms : ms = 0)
    (kk : ∀ (H : Heap) (locs : List Loc), P H → va_S A0 H0 H locs → W p l e R s m args below meth c H locs cells slots Q (F0 m (pc + 3) ls (v :: rest))) : W p l e R s m args below meth c H locs cells slots Q (F0 m pc ls st0) := by
  subst hmc; subst hms
  refine z_call0 hr hS hA fun r H1 locs1 hp _ _ hS1 => ?_
  obtain ⟨rfl, hp⟩ := hp
  exact kk H1 locs1 hp hS1
theorem z_callmv {P : Heap → Prop} {mc ms : Nat} {av : Array Value} (hr : vx_Run p l e R s m args below meth c H locs cells slots mc ms (F0 m pc ls st0) rest (zQ (fun r H1 => r = none ∧ P H1) A1 av) (zX (fun _ => False)) A1) (hS : va_S A0 H0 H locs) (hA : ∀ q, A1 q → A0 q) (hmc : mc = 0) (hms : ms = 0)
    (kk : ∀ (H : Heap) (locs : List Loc), P H → va_S A0 H0 H locs → W p l e R s m args below meth c H locs cells slots Q (F0 m (pc + 3) ls rest)) : W p l e R s m args below meth c H locs cells slots Q (F0 m pc ls st0) := by
  subst hmc; subst hms
  refine z_call0 hr hS hA fun r H1 locs1 hp _ _ hS1 => ?_
  obtain ⟨rfl, hp⟩ := hp
  exact kk H1 locs1 hp hS1
theorem zTw_le {A : Nat → Prop} (hTA : ∀ q, zTA t q → A q) (hA : ∀ q, H0.size ≤ q → A q) (hS : va_S A H0 H locs) : ∀ q, zTw t H q → A q := fun q h => h.elim (hTA q) (fun h => hA q (Nat.le_trans hS.1 h))
end ZT2
theorem zF_congr {G : zG} {H : Heap} {a n : Nat} {f g : Int → Int} (h : zAI G H a n (zF f)) (e : ∀ k : Int, 0 ≤ k → k < n → f k = g k) : zAI G H a n (zF g) := by
  show H[a]? = some (vp_cell _ _)
  rw [show vp_cell G.2.1.1 (n, .inl (zF g)) = vp_cell G.2.1.1 (n, .inl (zF f)) from ?_]
  · exact h
  · rw [vp_cell_i, vp_cell_i]
    unfold arrV
    congr 2
    funext j
    show Value.int (iI (g _)) = Value.int (iI (f _))
    rw [e _ (by omega) (by have := j.isLt; omega)]
theorem zT.congrW {G : zG} {t : zTau} {w w' kp lg hr : Int → Int} {ev rd th : Int} {H : Heap} (h : zT G t w kp lg hr ev rd th H) (e : ∀ k : Int, 0 ≤ k → k < 873 → w k = w' k) (hR : ∀ k, inR (w' k)) : zT G t w' kp lg hr ev rd th H := by
  obtain ⟨h1, h2, h3, h4, h5, h6, h7, h8⟩ := h
  exact ⟨h1, zF_congr h2 (fun k a b => e k a (by omega)), h3, h4, h5, h6, hR, h8⟩
theorem zT.congrK {G : zG} {t : zTau} {w kp kp' lg hr : Int → Int} {ev rd th : Int} {H : Heap} (h : zT G t w kp lg hr ev rd th H) (e : ∀ k : Int, 0 ≤ k → k < 873 → kp k = kp' k) (hR : ∀ k, inR (kp' k)) : zT G t w kp' lg hr ev rd th H := by
  obtain ⟨h1, h2, h3, h4, h5, h6, h7, h8, h9⟩ := h
  exact ⟨h1, h2, zF_congr h3 (fun k a b => e k a (by omega)), h4, h5, h6, h7, hR, h9⟩
