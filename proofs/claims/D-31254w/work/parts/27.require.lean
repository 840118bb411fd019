set_option maxRecDepth 100000
section ZB9
variable {p : Program} {l : Launch} {e : Env} {R : Room} {s : State} {m : MethodId} {args : Array Value} {below : List Frame} {meth : Method} {c : Code} {H : Heap} {locs : List Loc} {cells slots : Nat} {Q : State → Prop}
variable {cc : ByteArray} {pc : Nat} {ls : Array Slot} {rest st0 : List Value} {G : zG} {A A0 A1 : Nat → Prop} {H0 : Heap} {a : Nat} {mc ms : Nat} {xp xp0 : String → Prop} {av : Array Value}
/-- a callee that only throws, where the throw goes on -/
theorem z_callB {mc0 ms0 : Nat} {Qc : Array Value → State → Outcome → State → Prop} (hr : vx_Run p l e R s m args below meth c H locs cells slots mc ms (F0 m pc ls st0) rest (zQ (fun _ _ => False) A1 av) (zX xp) A1) (hS : va_S A0 s.heap H locs) (hA : ∀ q, A1 q → A0 q)
    (hN : ∀ q : Nat, q < s.heap.size → H[q]? = s.heap[q]?) (htab : ∀ x ∈ c.exceptionTable.toList, False) (hlocks : meth.locks = false) (hxp : ∀ E, xp E → xp0 E) (hc : cells + mc ≤ mc0) (hs : slots + ms ≤ ms0) : W p l e R s m args below meth c H locs cells slots (vx_MQ below Qc (zX xp0) args s mc0 ms0 A0) (F0 m pc ls st0) :=
  z_callP (rest2 := []) hr hS hA hN htab hlocks hxp hc hs fun _ _ _ hp _ _ _ => hp.elim
theorem z_callp0 (hr : vx_Run p l e R s m args below meth c H locs cells slots mc ms (F0 m pc ls st0) rest (zQ (fun r H1 => r = none ∧ H1 = H) A1 av) (zX (fun _ => False)) A1) (hS : va_S A0 H0 H locs) (hA : ∀ q, A1 q → A0 q) (hmc : mc = 0) (hms : ms = 0)
    (kk : ∀ (locs : List Loc), va_S A0 H0 H locs → W p l e R s m args below meth c H locs cells slots Q (F0 m (pc + 3) ls rest)) : W p l e R s m args below meth c H locs cells slots Q (F0 m pc ls st0) := by
  subst hmc; subst hms
  refine z_call0 hr hS hA fun r H1 locs1 hp _ _ hS1 => ?_
  obtain ⟨rfl, rfl⟩ := hp
  exact kk locs1 hS1
end ZB9
theorem zthr {G : zG} {A : Nat → Prop} {s : State} {args : Array Value} (hts : ∀ w ∈ lw_all, w.before args s = true) (hK : zK G A s) : ∀ w ∈ Bundle.throwableAtoms, vx_no w = true → w.before args s = true :=
  (List.forall_mem_cons.mpr ⟨(fun _ => hts _ q51), (List.forall_mem_cons.mpr ⟨(fun _ => hts _ q323), (List.forall_mem_cons.mpr ⟨(fun _ => hts _ q332), (List.forall_mem_cons.mpr ⟨(fun _ => hts _ q355), (List.forall_mem_cons.mpr ⟨(fun _ => hts _ q358), (List.forall_mem_cons.mpr ⟨(fun _ => hts _ q360), (List.forall_mem_cons.mpr ⟨(fun _ => hts _ q324), (List.forall_mem_cons.mpr ⟨(fun _ => hts _ q325), (List.forall_mem_cons.mpr ⟨(fun _ => hts _ q116), (List.forall_mem_cons.mpr ⟨(fun _ => hts _ q117), (List.forall_mem_cons.mpr ⟨(fun _ => hts _ q326), (List.forall_mem_cons.mpr ⟨(fun _ => hts _ q331), (List.forall_mem_cons.mpr ⟨(fun _ => hts _ q356), (List.forall_mem_cons.mpr ⟨(fun _ => hts _ q374), (List.forall_mem_cons.mpr ⟨(fun _ => hts _ q313), (List.forall_mem_cons.mpr ⟨(fun _ => hts _ q375), (List.forall_mem_cons.mpr ⟨(fun _ => hts _ q315), (List.forall_mem_cons.mpr ⟨(fun _ => hts _ q376), (List.forall_mem_cons.mpr ⟨(fun _ => hts _ q317), (List.forall_mem_cons.mpr ⟨(fun _ => hts _ q327), (List.forall_mem_cons.mpr ⟨(fun h => absurd h (by decide)), (List.forall_mem_cons.mpr ⟨(fun _ => hts _ q329), (List.forall_mem_cons.mpr ⟨(fun h => absurd h (by decide)), (List.forall_mem_cons.mpr ⟨(fun _ => hts _ q319), (fun _ h => absurd h List.not_mem_nil)⟩)⟩)⟩)⟩)⟩)⟩)⟩)⟩)⟩)⟩)⟩)⟩)⟩)⟩)⟩)⟩)⟩)⟩)⟩)⟩)⟩)⟩)⟩)⟩)
theorem zps_IllegalArgumentException {G : zG} {A : Nat → Prop} {s : State} {args : Array Value} (hts : ∀ w ∈ lw_all, w.before args s = true) (hK : zK G A s) : ∀ w ∈ Bundle.passAtoms "java/lang/IllegalArgumentException" "java/lang/RuntimeException" 1 Bundle.five, vx_no w = true → w.before args s = true :=
  (List.forall_mem_cons.mpr ⟨(fun _ => hts _ q904), (List.forall_mem_cons.mpr ⟨(fun _ => hts _ q905), (List.forall_mem_cons.mpr ⟨(fun _ => hts _ q906), (List.forall_mem_cons.mpr ⟨(fun _ => hts _ q366), (List.forall_mem_cons.mpr ⟨(fun _ => va_Nw.use rfl (hK.2.1 _ q304 rfl)), (fun _ h => absurd h List.not_mem_nil)⟩)⟩)⟩)⟩)⟩)
theorem zps_IllegalStateException {G : zG} {A : Nat → Prop} {s : State} {args : Array Value} (hts : ∀ w ∈ lw_all, w.before args s = true) (hK : zK G A s) : ∀ w ∈ Bundle.passAtoms "java/lang/IllegalStateException" "java/lang/RuntimeException" 1 Bundle.five, vx_no w = true → w.before args s = true :=
  (List.forall_mem_cons.mpr ⟨(fun _ => hts _ q922), (List.forall_mem_cons.mpr ⟨(fun _ => hts _ q923), (List.forall_mem_cons.mpr ⟨(fun _ => hts _ q924), (List.forall_mem_cons.mpr ⟨(fun _ => hts _ q366), (List.forall_mem_cons.mpr ⟨(fun _ => va_Nw.use rfl (hK.2.1 _ q304 rfl)), (fun _ h => absurd h List.not_mem_nil)⟩)⟩)⟩)⟩)⟩)
theorem zps_IndexOutOfBoundsException {G : zG} {A : Nat → Prop} {s : State} {args : Array Value} (hts : ∀ w ∈ lw_all, w.before args s = true) (hK : zK G A s) : ∀ w ∈ Bundle.passAtoms "java/lang/IndexOutOfBoundsException" "java/lang/RuntimeException" 1 Bundle.five, vx_no w = true → w.before args s = true :=
  (List.forall_mem_cons.mpr ⟨(fun _ => hts _ q363), (List.forall_mem_cons.mpr ⟨(fun _ => hts _ q364), (List.forall_mem_cons.mpr ⟨(fun _ => hts _ q365), (List.forall_mem_cons.mpr ⟨(fun _ => hts _ q366), (List.forall_mem_cons.mpr ⟨(fun _ => va_Nw.use rfl (hK.2.1 _ q304 rfl)), (fun _ h => absurd h List.not_mem_nil)⟩)⟩)⟩)⟩)⟩)
theorem zps_NoSuchElementException {G : zG} {A : Nat → Prop} {s : State} {args : Array Value} (hts : ∀ w ∈ lw_all, w.before args s = true) (hK : zK G A s) : ∀ w ∈ Bundle.passAtoms "java/util/NoSuchElementException" "java/lang/RuntimeException" 1 Bundle.five, vx_no w = true → w.before args s = true :=
  (List.forall_mem_cons.mpr ⟨(fun _ => hts _ q2265), (List.forall_mem_cons.mpr ⟨(fun _ => hts _ q2266), (List.forall_mem_cons.mpr ⟨(fun _ => hts _ q2267), (List.forall_mem_cons.mpr ⟨(fun _ => hts _ q366), (List.forall_mem_cons.mpr ⟨(fun _ => va_Nw.use rfl (hK.2.1 _ q304 rfl)), (fun _ h => absurd h List.not_mem_nil)⟩)⟩)⟩)⟩)⟩)
theorem zps_RuntimeException {G : zG} {A : Nat → Prop} {s : State} {args : Array Value} (hts : ∀ w ∈ lw_all, w.before args s = true) (hK : zK G A s) : ∀ w ∈ Bundle.passAtoms "java/lang/RuntimeException" "java/lang/Exception" 1 Bundle.five, vx_no w = true → w.before args s = true :=
  (List.forall_mem_cons.mpr ⟨(fun _ => hts _ q366), (List.forall_mem_cons.mpr ⟨(fun _ => hts _ q367), (List.forall_mem_cons.mpr ⟨(fun _ => hts _ q368), (List.forall_mem_cons.mpr ⟨(fun _ => hts _ q369), (List.forall_mem_cons.mpr ⟨(fun _ => va_Nw.use rfl (hK.2.1 _ q306 rfl)), (fun _ h => absurd h List.not_mem_nil)⟩)⟩)⟩)⟩)⟩)
theorem zps_Exception {G : zG} {A : Nat → Prop} {s : State} {args : Array Value} (hts : ∀ w ∈ lw_all, w.before args s = true) (hK : zK G A s) : ∀ w ∈ Bundle.passAtoms "java/lang/Exception" "java/lang/Throwable" 1 Bundle.five, vx_no w = true → w.before args s = true :=
  (List.forall_mem_cons.mpr ⟨(fun _ => hts _ q369), (List.forall_mem_cons.mpr ⟨(fun _ => hts _ q370), (List.forall_mem_cons.mpr ⟨(fun _ => hts _ q371), (List.forall_mem_cons.mpr ⟨(fun _ => hts _ q324), (List.forall_mem_cons.mpr ⟨(fun _ => va_Nw.use rfl (hK.2.1 _ q308 rfl)), (fun _ h => absurd h List.not_mem_nil)⟩)⟩)⟩)⟩)⟩)
theorem zat_IllegalArgumentException {G : zG} {A : Nat → Prop} {s : State} {args : Array Value} (hts : ∀ w ∈ lw_all, w.before args s = true) (hK : zK G A s) : ∀ w ∈ vx_at0 "CheckoutDesk" 3 "java/lang/IllegalArgumentException" ["java/lang/RuntimeException", "java/lang/Exception"], w.before args s = true := fun w hw =>
  (List.forall_mem_append.mpr ⟨List.forall_mem_append.mpr ⟨zthr hts hK, List.forall_mem_append.mpr ⟨zps_IllegalArgumentException hts hK, List.forall_mem_append.mpr ⟨zps_RuntimeException hts hK, zps_Exception hts hK⟩⟩⟩, (List.forall_mem_cons.mpr ⟨(fun _ => hts _ q903), (List.forall_mem_cons.mpr ⟨(fun _ => hts _ q895), (List.forall_mem_cons.mpr ⟨(fun _ => va_Nw.use rfl (hK.2.1 _ q896 rfl)), (List.forall_mem_cons.mpr ⟨(fun _ => hts _ q897), (List.forall_mem_cons.mpr ⟨(fun _ => hts _ q338), (List.forall_mem_cons.mpr ⟨(fun _ => hts _ q898), (List.forall_mem_cons.mpr ⟨(fun _ => hts _ q899), (List.forall_mem_cons.mpr ⟨(fun _ => hts _ q900), (List.forall_mem_cons.mpr ⟨(fun _ => hts _ q901), (List.forall_mem_cons.mpr ⟨(fun h => absurd h (by decide)), (List.forall_mem_cons.mpr ⟨(fun h => absurd h (by decide)), (List.forall_mem_cons.mpr ⟨(fun _ => hts _ q372), (List.forall_mem_cons.mpr ⟨(fun _ => hts _ q321), (List.forall_mem_cons.mpr ⟨(fun _ => hts _ q902), (fun _ h => absurd h List.not_mem_nil)⟩)⟩)⟩)⟩)⟩)⟩)⟩)⟩)⟩)⟩)⟩)⟩)⟩)⟩)⟩ : ∀ w ∈ Bundle.ownAtoms0 "CheckoutDesk" 3 "java/lang/IllegalArgumentException" ["java/lang/RuntimeException", "java/lang/Exception"], vx_no w = true → w.before args s = true) w (List.mem_filter.mp hw).1 (List.mem_filter.mp hw).2
theorem zat_IllegalStateException {G : zG} {A : Nat → Prop} {s : State} {args : Array Value} (hts : ∀ w ∈ lw_all, w.before args s = true) (hK : zK G A s) : ∀ w ∈ vx_at0 "CheckoutDesk" 9 "java/lang/IllegalStateException" ["java/lang/RuntimeException", "java/lang/Exception"], w.before args s = true := fun w hw =>
  (List.forall_mem_append.mpr ⟨List.forall_mem_append.mpr ⟨zthr hts hK, List.forall_mem_append.mpr ⟨zps_IllegalStateException hts hK, List.forall_mem_append.mpr ⟨zps_RuntimeException hts hK, zps_Exception hts hK⟩⟩⟩, (List.forall_mem_cons.mpr ⟨(fun _ => hts _ q921), (List.forall_mem_cons.mpr ⟨(fun _ => hts _ q913), (List.forall_mem_cons.mpr ⟨(fun _ => va_Nw.use rfl (hK.2.1 _ q914 rfl)), (List.forall_mem_cons.mpr ⟨(fun _ => hts _ q915), (List.forall_mem_cons.mpr ⟨(fun _ => hts _ q339), (List.forall_mem_cons.mpr ⟨(fun _ => hts _ q916), (List.forall_mem_cons.mpr ⟨(fun _ => hts _ q917), (List.forall_mem_cons.mpr ⟨(fun _ => hts _ q918), (List.forall_mem_cons.mpr ⟨(fun _ => hts _ q919), (List.forall_mem_cons.mpr ⟨(fun h => absurd h (by decide)), (List.forall_mem_cons.mpr ⟨(fun h => absurd h (by decide)), (List.forall_mem_cons.mpr ⟨(fun _ => hts _ q372), (List.forall_mem_cons.mpr ⟨(fun _ => hts _ q321), (List.forall_mem_cons.mpr ⟨(fun _ => hts _ q920), (fun _ h => absurd h List.not_mem_nil)⟩)⟩)⟩)⟩)⟩)⟩)⟩)⟩)⟩)⟩)⟩)⟩)⟩)⟩)⟩ : ∀ w ∈ Bundle.ownAtoms0 "CheckoutDesk" 9 "java/lang/IllegalStateException" ["java/lang/RuntimeException", "java/lang/Exception"], vx_no w = true → w.before args s = true) w (List.mem_filter.mp hw).1 (List.mem_filter.mp hw).2
theorem zat_IndexOutOfBoundsException {G : zG} {A : Nat → Prop} {s : State} {args : Array Value} (hts : ∀ w ∈ lw_all, w.before args s = true) (hK : zK G A s) : ∀ w ∈ vx_at0 "CheckoutDesk" 12 "java/lang/IndexOutOfBoundsException" ["java/lang/RuntimeException", "java/lang/Exception"], w.before args s = true := fun w hw =>
  (List.forall_mem_append.mpr ⟨List.forall_mem_append.mpr ⟨zthr hts hK, List.forall_mem_append.mpr ⟨zps_IndexOutOfBoundsException hts hK, List.forall_mem_append.mpr ⟨zps_RuntimeException hts hK, zps_Exception hts hK⟩⟩⟩, (List.forall_mem_cons.mpr ⟨(fun _ => hts _ q362), (List.forall_mem_cons.mpr ⟨(fun _ => hts _ q302), (List.forall_mem_cons.mpr ⟨(fun _ => va_Nw.use rfl (hK.2.1 _ q303 rfl)), (List.forall_mem_cons.mpr ⟨(fun _ => hts _ q310), (List.forall_mem_cons.mpr ⟨(fun _ => hts _ q311), (List.forall_mem_cons.mpr ⟨(fun _ => hts _ q312), (List.forall_mem_cons.mpr ⟨(fun _ => hts _ q314), (List.forall_mem_cons.mpr ⟨(fun _ => hts _ q316), (List.forall_mem_cons.mpr ⟨(fun _ => hts _ q318), (List.forall_mem_cons.mpr ⟨(fun h => absurd h (by decide)), (List.forall_mem_cons.mpr ⟨(fun h => absurd h (by decide)), (List.forall_mem_cons.mpr ⟨(fun _ => hts _ q372), (List.forall_mem_cons.mpr ⟨(fun _ => hts _ q321), (List.forall_mem_cons.mpr ⟨(fun _ => hts _ q320), (fun _ h => absurd h List.not_mem_nil)⟩)⟩)⟩)⟩)⟩)⟩)⟩)⟩)⟩)⟩)⟩)⟩)⟩)⟩)⟩ : ∀ w ∈ Bundle.ownAtoms0 "CheckoutDesk" 12 "java/lang/IndexOutOfBoundsException" ["java/lang/RuntimeException", "java/lang/Exception"], vx_no w = true → w.before args s = true) w (List.mem_filter.mp hw).1 (List.mem_filter.mp hw).2
theorem zat_NoSuchElementException {G : zG} {A : Nat → Prop} {s : State} {args : Array Value} (hts : ∀ w ∈ lw_all, w.before args s = true) (hK : zK G A s) : ∀ w ∈ vx_at0 "CheckoutDesk" 15 "java/util/NoSuchElementException" ["java/lang/RuntimeException", "java/lang/Exception"], w.before args s = true := fun w hw =>
  (List.forall_mem_append.mpr ⟨List.forall_mem_append.mpr ⟨zthr hts hK, List.forall_mem_append.mpr ⟨zps_NoSuchElementException hts hK, List.forall_mem_append.mpr ⟨zps_RuntimeException hts hK, zps_Exception hts hK⟩⟩⟩, (List.forall_mem_cons.mpr ⟨(fun _ => hts _ q2264), (List.forall_mem_cons.mpr ⟨(fun _ => hts _ q2256), (List.forall_mem_cons.mpr ⟨(fun _ => va_Nw.use rfl (hK.2.1 _ q2257 rfl)), (List.forall_mem_cons.mpr ⟨(fun _ => hts _ q2258), (List.forall_mem_cons.mpr ⟨(fun _ => hts _ q361), (List.forall_mem_cons.mpr ⟨(fun _ => hts _ q2259), (List.forall_mem_cons.mpr ⟨(fun _ => hts _ q2260), (List.forall_mem_cons.mpr ⟨(fun _ => hts _ q2261), (List.forall_mem_cons.mpr ⟨(fun _ => hts _ q2262), (List.forall_mem_cons.mpr ⟨(fun h => absurd h (by decide)), (List.forall_mem_cons.mpr ⟨(fun h => absurd h (by decide)), (List.forall_mem_cons.mpr ⟨(fun _ => hts _ q372), (List.forall_mem_cons.mpr ⟨(fun _ => hts _ q321), (List.forall_mem_cons.mpr ⟨(fun _ => hts _ q2263), (fun _ h => absurd h List.not_mem_nil)⟩)⟩)⟩)⟩)⟩)⟩)⟩)⟩)⟩)⟩)⟩)⟩)⟩)⟩)⟩ : ∀ w ∈ Bundle.ownAtoms0 "CheckoutDesk" 15 "java/util/NoSuchElementException" ["java/lang/RuntimeException", "java/lang/Exception"], vx_no w = true → w.before args s = true) w (List.mem_filter.mp hw).1 (List.mem_filter.mp hw).2
theorem hn_X1_inRange : yX1_inRange.cls ≠ "java/lang/invoke/MethodHandle" ∧ yX1_inRange.cls ≠ "java/lang/invoke/VarHandle" ∧ (parseMethodDescriptor yX1_inRange.desc).map (fun d => d.parameters.length) = some 3 := by decide +kernel
theorem hd_X1_inRange : yX1_inRange.cls = "CheckoutDesk" ∧ yX1_inRange.cls ≠ "java/lang/invoke/MethodHandle" ∧ yX1_inRange.cls ≠ "java/lang/invoke/VarHandle" ∧ (parseMethodDescriptor yX1_inRange.desc).map (fun d => d.parameters.length) = some 3 := ⟨rfl, hn_X1_inRange⟩
abbrev rm_X1_inRange : Room := { frames := 1, cells := 0, slots := 0, locals := 16 }
set_option maxHeartbeats 1000000 in
theorem cg_X1_inRange (l : Launch) {G : zG} {H0 : Heap} {x0 x1 x2 : Int} (h0 : inR x0) (h1 : inR x1) (h2 : inR x2) : zM l yX1_inRange (ws_ yX1_inRange cX1_inRange 3 (some .boolean)) rm_X1_inRange G (zN H0) [.int (iI x0), .int (iI x1), .int (iI x2)] H0 (fun r H1 => r = some (.int (iI (bI (tw_lies x0 x1 x2)))) ∧ H1 = H0) (fun _ => False) := by
  refine z_enter (by decide +kernel) (Nat.le_of_ble_eq_true rfl) ?_
  intro p e s m args below meth c ls hx hb hret hml hown hts hlocks htab hnm hK hH hl
  subst hH
  have hAn : ∀ q, s.heap.size ≤ q → (zN s.heap) q := fun _ h => h
  have hS : va_S (zN s.heap) s.heap s.heap [] := va_S.rf
  have hS0 := hS
  have hsz_0 : s.heap.size ≤ s.heap.size := Nat.le_refl _
  have hl : lv_has ls 3 [(0, .int (iI x0)), (1, .int (iI x1)), (2, .int (iI x2))] := hl
  refine lv_iload_n hx hb dX1_inRange_0 rfl (lv_at hl 0 rfl) ?_
  refine lv_iload_n hx hb dX1_inRange_1 rfl (lv_at hl 1 rfl) ?_
  refine z_join (pc2 := 15) (nL := 3) (lv := [(0, .int (iI x0)), (1, .int (iI x1)), (2, .int (iI x2))]) (st2 := [.int (iI (bI (!(decide (x0 < x1)) && (!(decide (x2 < x0))))))]) hS (fun J_1 => ?_) (fun locs ls hS hl => ?_)
  · refine z_icmp_lt (x := x0) (y := x1) (tgt := 14) hx hb (by first | with_reducible assumption | omega | exact ⟨by omega, by omega⟩) (by first | with_reducible assumption | omega | exact ⟨by omega, by omega⟩) dX1_inRange_2 (by decide) (fun c_2 => ?_) (fun c_2 => ?_)
    · refine lv_iconst (v := iI 0) hx hb dX1_inRange_14 rfl ?_
      refine z_top (x := 0) (y := bI (!(decide (x0 < x1)) && (!(decide (x2 < x0))))) (by simp [bI, c_2]) ?_
      exact J_1 _ ls hS (lv_sub hl [0, 1, 2] rfl)
    · refine lv_iload_n hx hb dX1_inRange_5 rfl (lv_at hl 0 rfl) ?_
      refine lv_iload_n hx hb dX1_inRange_6 rfl (lv_at hl 2 rfl) ?_
      refine z_icmp_gt (x := x0) (y := x2) (tgt := 14) hx hb (by first | with_reducible assumption | omega | exact ⟨by omega, by omega⟩) (by first | with_reducible assumption | omega | exact ⟨by omega, by omega⟩) dX1_inRange_7 (by decide) (fun c_3 => ?_) (fun c_3 => ?_)
      · refine lv_iconst (v := iI 0) hx hb dX1_inRange_14 rfl ?_
        refine z_top (x := 0) (y := bI (!(decide (x0 < x1)) && (!(decide (x2 < x0))))) (by simp [bI, c_2, c_3]) ?_
        exact J_1 _ ls hS (lv_sub hl [0, 1, 2] rfl)
      · refine lv_iconst (v := iI 1) hx hb dX1_inRange_10 rfl ?_
        refine lv_goto (tgt := 15) hx hb dX1_inRange_11 (by decide) ?_
        refine z_top (x := 1) (y := bI (!(decide (x0 < x1)) && (!(decide (x2 < x0))))) (by simp [bI, c_2, c_3]) ?_
        exact J_1 _ ls hS (lv_sub hl [0, 1, 2] rfl)
  · exact z_iret hx hb hret (z_nar _) hlocks hS ⟨rfl, rfl⟩ (Nat.le_of_ble_eq_true rfl) (Nat.le_of_ble_eq_true rfl) dX1_inRange_15
theorem hn_X1_requireArgument : yX1_requireArgument.cls ≠ "java/lang/invoke/MethodHandle" ∧ yX1_requireArgument.cls ≠ "java/lang/invoke/VarHandle" ∧ (parseMethodDescriptor yX1_requireArgument.desc).map (fun d => d.parameters.length) = some 1 := by decide +kernel
theorem hd_X1_requireArgument : yX1_requireArgument.cls = "CheckoutDesk" ∧ yX1_requireArgument.cls ≠ "java/lang/invoke/MethodHandle" ∧ yX1_requireArgument.cls ≠ "java/lang/invoke/VarHandle" ∧ (parseMethodDescriptor yX1_requireArgument.desc).map (fun d => d.parameters.length) = some 1 := ⟨rfl, hn_X1_requireArgument⟩
abbrev rm_X1_requireArgument : Room := { frames := 1, cells := 0, slots := 0, locals := 16 }
set_option maxHeartbeats 1000000 in
theorem cg_X1_requireArgument (l : Launch) {G : zG} {H0 : Heap} {b0 : Bool} (hb0 : b0 = true) : zM l yX1_requireArgument (ws_ yX1_requireArgument cX1_requireArgument 1 none) rm_X1_requireArgument G (zN H0) [.int (iI (bI b0))] H0 (fun r H1 => r = none ∧ H1 = H0) (fun _ => False) := by
  refine z_enter (by decide +kernel) (Nat.le_of_ble_eq_true rfl) ?_
  intro p e s m args below meth c ls hx hb hret hml hown hts hlocks htab hnm hK hH hl
  subst hH
  have hAn : ∀ q, s.heap.size ≤ q → (zN s.heap) q := fun _ h => h
  have hS : va_S (zN s.heap) s.heap s.heap [] := va_S.rf
  have hS0 := hS
  have hsz_0 : s.heap.size ≤ s.heap.size := Nat.le_refl _
  have hl : lv_has ls 1 [(0, .int (iI (bI b0)))] := hl
  refine lv_iload_n hx hb dX1_requireArgument_0 rfl (lv_at hl 0 rfl) ?_
  refine z_ifb_ne (b := b0) (tgt := 12) hx hb dX1_requireArgument_1 (by decide) (fun c_1 => ?_) (fun c_1 => ?_)
  · exact z_vret hx hb hret hlocks hS ⟨rfl, rfl⟩ (Nat.le_of_ble_eq_true rfl) (Nat.le_of_ble_eq_true rfl) dX1_requireArgument_12
  · exact absurd hb0 (by simp [c_1])
abbrev rx_cx_X1_requireArgument : Room := { frames := 8, cells := 1, slots := 6, locals := 120 }
set_option maxHeartbeats 1000000 in
theorem cx_X1_requireArgument (l : Launch) (hst : l.stackTraces = false) {G : zG} {H0 : Heap} {b0 : Bool} (hb0 : ¬ b0 = true) : zM l yX1_requireArgument (ws_ yX1_requireArgument cX1_requireArgument 1 none) rx_cx_X1_requireArgument G (zN H0) [.int (iI (bI b0))] H0 (fun _ _ => False) (fun E => E = "java/lang/IllegalArgumentException") := by
  refine z_enter (by decide +kernel) (Nat.le_of_ble_eq_true rfl) ?_
  intro p e s m args below meth c ls hx hb hret hml hown hts hlocks htab hnm hK hH hl
  subst hH
  have hAn : ∀ q, s.heap.size ≤ q → (zN s.heap) q := fun _ h => h
  have hS : va_S (zN s.heap) s.heap s.heap [] := va_S.rf
  have hS0 := hS
  have hsz_0 : s.heap.size ≤ s.heap.size := Nat.le_refl _
  have hl : lv_has ls 1 [(0, .int (iI (bI b0)))] := hl
  refine lv_iload_n hx hb dX1_requireArgument_0 rfl (lv_at hl 0 rfl) ?_
  refine z_ifb_ne (b := b0) (tgt := 12) hx hb dX1_requireArgument_1 (by decide) (fun c_1 => ?_) (fun c_1 => ?_)
  · exact absurd c_1 hb0
  · exact vx_throw0 (names := ["java/lang/RuntimeException", "java/lang/Exception"]) (XC := zX _) hx hb hst hown (by decide) (by decide) (hts _ q894) (hts _ q54) (zat_IllegalArgumentException hts hK) (by decide) hK.2.2.2.2.2.2.2.2.2.1 hK.2.2.2.2.2.2.2.2.2.2 hS (hl.1.trans hml.symm) dX1_requireArgument_4 dX1_requireArgument_7 dX1_requireArgument_8 dX1_requireArgument_11 (fun x hx => (htab x hx).elim) (by show _ < _; decide) (by show _ ≤ _; decide) (by show _ ≤ _; decide) (by show _ ≤ _; decide) hlocks (fun t _ h1 h2 => ⟨rfl, h1, fun q hq _ => h2 q hq⟩) hS.2.2 (Nat.le_refl _) (Nat.le_refl _)
theorem hn_X1_requireState : yX1_requireState.cls ≠ "java/lang/invoke/MethodHandle" ∧ yX1_requireState.cls ≠ "java/lang/invoke/VarHandle" ∧ (parseMethodDescriptor yX1_requireState.desc).map (fun d => d.parameters.length) = some 1 := by decide +kernel
theorem hd_X1_requireState : yX1_requireState.cls = "CheckoutDesk" ∧ yX1_requireState.cls ≠ "java/lang/invoke/MethodHandle" ∧ yX1_requireState.cls ≠ "java/lang/invoke/VarHandle" ∧ (parseMethodDescriptor yX1_requireState.desc).map (fun d => d.parameters.length) = some 1 := ⟨rfl, hn_X1_requireState⟩
abbrev rm_X1_requireState : Room := { frames := 1, cells := 0, slots := 0, locals := 16 }
set_option maxHeartbeats 1000000 in
theorem cg_X1_requireState (l : Launch) {G : zG} {H0 : Heap} {b0 : Bool} (hb0 : b0 = true) : zM l yX1_requireState (ws_ yX1_requireState cX1_requireState 1 none) rm_X1_requireState G (zN H0) [.int (iI (bI b0))] H0 (fun r H1 => r = none ∧ H1 = H0) (fun _ => False) := by
  refine z_enter (by decide +kernel) (Nat.le_of_ble_eq_true rfl) ?_
  intro p e s m args below meth c ls hx hb hret hml hown hts hlocks htab hnm hK hH hl
  subst hH
  have hAn : ∀ q, s.heap.size ≤ q → (zN s.heap) q := fun _ h => h
  have hS : va_S (zN s.heap) s.heap s.heap [] := va_S.rf
  have hS0 := hS
  have hsz_0 : s.heap.size ≤ s.heap.size := Nat.le_refl _
  have hl : lv_has ls 1 [(0, .int (iI (bI b0)))] := hl
  refine lv_iload_n hx hb dX1_requireState_0 rfl (lv_at hl 0 rfl) ?_
  refine z_ifb_ne (b := b0) (tgt := 12) hx hb dX1_requireState_1 (by decide) (fun c_1 => ?_) (fun c_1 => ?_)
  · exact z_vret hx hb hret hlocks hS ⟨rfl, rfl⟩ (Nat.le_of_ble_eq_true rfl) (Nat.le_of_ble_eq_true rfl) dX1_requireState_12
  · exact absurd hb0 (by simp [c_1])
abbrev rx_cx_X1_requireState : Room := { frames := 8, cells := 1, slots := 6, locals := 120 }
set_option maxHeartbeats 1000000 in
theorem cx_X1_requireState (l : Launch) (hst : l.stackTraces = false) {G : zG} {H0 : Heap} {b0 : Bool} (hb0 : ¬ b0 = true) : zM l yX1_requireState (ws_ yX1_requireState cX1_requireState 1 none) rx_cx_X1_requireState G (zN H0) [.int (iI (bI b0))] H0 (fun _ _ => False) (fun E => E = "java/lang/IllegalStateException") := by
  refine z_enter (by decide +kernel) (Nat.le_of_ble_eq_true rfl) ?_
  intro p e s m args below meth c ls hx hb hret hml hown hts hlocks htab hnm hK hH hl
  subst hH
  have hAn : ∀ q, s.heap.size ≤ q → (zN s.heap) q := fun _ h => h
  have hS : va_S (zN s.heap) s.heap s.heap [] := va_S.rf
  have hS0 := hS
  have hsz_0 : s.heap.size ≤ s.heap.size := Nat.le_refl _
  have hl : lv_has ls 1 [(0, .int (iI (bI b0)))] := hl
  refine lv_iload_n hx hb dX1_requireState_0 rfl (lv_at hl 0 rfl) ?_
  refine z_ifb_ne (b := b0) (tgt := 12) hx hb dX1_requireState_1 (by decide) (fun c_1 => ?_) (fun c_1 => ?_)
  · exact absurd c_1 hb0
  · exact vx_throw0 (names := ["java/lang/RuntimeException", "java/lang/Exception"]) (XC := zX _) hx hb hst hown (by decide) (by decide) (hts _ q912) (hts _ q55) (zat_IllegalStateException hts hK) (by decide) hK.2.2.2.2.2.2.2.2.2.1 hK.2.2.2.2.2.2.2.2.2.2 hS (hl.1.trans hml.symm) dX1_requireState_4 dX1_requireState_7 dX1_requireState_8 dX1_requireState_11 (fun x hx => (htab x hx).elim) (by show _ < _; decide) (by show _ ≤ _; decide) (by show _ ≤ _; decide) (by show _ ≤ _; decide) hlocks (fun t _ h1 h2 => ⟨rfl, h1, fun q hq _ => h2 q hq⟩) hS.2.2 (Nat.le_refl _) (Nat.le_refl _)
theorem hn_X1_requireIndex : yX1_requireIndex.cls ≠ "java/lang/invoke/MethodHandle" ∧ yX1_requireIndex.cls ≠ "java/lang/invoke/VarHandle" ∧ (parseMethodDescriptor yX1_requireIndex.desc).map (fun d => d.parameters.length) = some 1 := by decide +kernel
theorem hd_X1_requireIndex : yX1_requireIndex.cls = "CheckoutDesk" ∧ yX1_requireIndex.cls ≠ "java/lang/invoke/MethodHandle" ∧ yX1_requireIndex.cls ≠ "java/lang/invoke/VarHandle" ∧ (parseMethodDescriptor yX1_requireIndex.desc).map (fun d => d.parameters.length) = some 1 := ⟨rfl, hn_X1_requireIndex⟩
abbrev rm_X1_requireIndex : Room := { frames := 1, cells := 0, slots := 0, locals := 16 }
set_option maxHeartbeats 1000000 in
theorem cg_X1_requireIndex (l : Launch) {G : zG} {H0 : Heap} {b0 : Bool} (hb0 : b0 = true) : zM l yX1_requireIndex (ws_ yX1_requireIndex cX1_requireIndex 1 none) rm_X1_requireIndex G (zN H0) [.int (iI (bI b0))] H0 (fun r H1 => r = none ∧ H1 = H0) (fun _ => False) := by
  refine z_enter (by decide +kernel) (Nat.le_of_ble_eq_true rfl) ?_
  intro p e s m args below meth c ls hx hb hret hml hown hts hlocks htab hnm hK hH hl
  subst hH
  have hAn : ∀ q, s.heap.size ≤ q → (zN s.heap) q := fun _ h => h
  have hS : va_S (zN s.heap) s.heap s.heap [] := va_S.rf
  have hS0 := hS
  have hsz_0 : s.heap.size ≤ s.heap.size := Nat.le_refl _
  have hl : lv_has ls 1 [(0, .int (iI (bI b0)))] := hl
  refine lv_iload_n hx hb dX1_requireIndex_0 rfl (lv_at hl 0 rfl) ?_
  refine z_ifb_ne (b := b0) (tgt := 12) hx hb dX1_requireIndex_1 (by decide) (fun c_1 => ?_) (fun c_1 => ?_)
  · exact z_vret hx hb hret hlocks hS ⟨rfl, rfl⟩ (Nat.le_of_ble_eq_true rfl) (Nat.le_of_ble_eq_true rfl) dX1_requireIndex_12
  · exact absurd hb0 (by simp [c_1])
abbrev rx_cx_X1_requireIndex : Room := { frames := 8, cells := 1, slots := 6, locals := 120 }
set_option maxHeartbeats 1000000 in
theorem cx_X1_requireIndex (l : Launch) (hst : l.stackTraces = false) {G : zG} {H0 : Heap} {b0 : Bool} (hb0 : ¬ b0 = true) : zM l yX1_requireIndex (ws_ yX1_requireIndex cX1_requireIndex 1 none) rx_cx_X1_requireIndex G (zN H0) [.int (iI (bI b0))] H0 (fun _ _ => False) (fun E => E = "java/lang/IndexOutOfBoundsException") := by
  refine z_enter (by decide +kernel) (Nat.le_of_ble_eq_true rfl) ?_
  intro p e s m args below meth c ls hx hb hret hml hown hts hlocks htab hnm hK hH hl
  subst hH
  have hAn : ∀ q, s.heap.size ≤ q → (zN s.heap) q := fun _ h => h
  have hS : va_S (zN s.heap) s.heap s.heap [] := va_S.rf
  have hS0 := hS
  have hsz_0 : s.heap.size ≤ s.heap.size := Nat.le_refl _
  have hl : lv_has ls 1 [(0, .int (iI (bI b0)))] := hl
  refine lv_iload_n hx hb dX1_requireIndex_0 rfl (lv_at hl 0 rfl) ?_
  refine z_ifb_ne (b := b0) (tgt := 12) hx hb dX1_requireIndex_1 (by decide) (fun c_1 => ?_) (fun c_1 => ?_)
  · exact absurd c_1 hb0
  · exact vx_throw0 (names := ["java/lang/RuntimeException", "java/lang/Exception"]) (XC := zX _) hx hb hst hown (by decide) (by decide) (hts _ q301) (hts _ q56) (zat_IndexOutOfBoundsException hts hK) (by decide) hK.2.2.2.2.2.2.2.2.2.1 hK.2.2.2.2.2.2.2.2.2.2 hS (hl.1.trans hml.symm) dX1_requireIndex_4 dX1_requireIndex_7 dX1_requireIndex_8 dX1_requireIndex_11 (fun x hx => (htab x hx).elim) (by show _ < _; decide) (by show _ ≤ _; decide) (by show _ ≤ _; decide) (by show _ ≤ _; decide) hlocks (fun t _ h1 h2 => ⟨rfl, h1, fun q hq _ => h2 q hq⟩) hS.2.2 (Nat.le_refl _) (Nat.le_refl _)
theorem hn_X1_requireElement : yX1_requireElement.cls ≠ "java/lang/invoke/MethodHandle" ∧ yX1_requireElement.cls ≠ "java/lang/invoke/VarHandle" ∧ (parseMethodDescriptor yX1_requireElement.desc).map (fun d => d.parameters.length) = some 1 := by decide +kernel
theorem hd_X1_requireElement : yX1_requireElement.cls = "CheckoutDesk" ∧ yX1_requireElement.cls ≠ "java/lang/invoke/MethodHandle" ∧ yX1_requireElement.cls ≠ "java/lang/invoke/VarHandle" ∧ (parseMethodDescriptor yX1_requireElement.desc).map (fun d => d.parameters.length) = some 1 := ⟨rfl, hn_X1_requireElement⟩
abbrev rm_X1_requireElement : Room := { frames := 1, cells := 0, slots := 0, locals := 16 }
set_option maxHeartbeats 1000000 in
theorem cg_X1_requireElement (l : Launch) {G : zG} {H0 : Heap} {b0 : Bool} (hb0 : b0 = true) : zM l yX1_requireElement (ws_ yX1_requireElement cX1_requireElement 1 none) rm_X1_requireElement G (zN H0) [.int (iI (bI b0))] H0 (fun r H1 => r = none ∧ H1 = H0) (fun _ => False) := by
  refine z_enter (by decide +kernel) (Nat.le_of_ble_eq_true rfl) ?_
  intro p e s m args below meth c ls hx hb hret hml hown hts hlocks htab hnm hK hH hl
  subst hH
  have hAn : ∀ q, s.heap.size ≤ q → (zN s.heap) q := fun _ h => h
  have hS : va_S (zN s.heap) s.heap s.heap [] := va_S.rf
  have hS0 := hS
  have hsz_0 : s.heap.size ≤ s.heap.size := Nat.le_refl _
  have hl : lv_has ls 1 [(0, .int (iI (bI b0)))] := hl
  refine lv_iload_n hx hb dX1_requireElement_0 rfl (lv_at hl 0 rfl) ?_
  refine z_ifb_ne (b := b0) (tgt := 12) hx hb dX1_requireElement_1 (by decide) (fun c_1 => ?_) (fun c_1 => ?_)
  · exact z_vret hx hb hret hlocks hS ⟨rfl, rfl⟩ (Nat.le_of_ble_eq_true rfl) (Nat.le_of_ble_eq_true rfl) dX1_requireElement_12
  · exact absurd hb0 (by simp [c_1])
abbrev rx_cx_X1_requireElement : Room := { frames := 8, cells := 1, slots := 6, locals := 120 }
set_option maxHeartbeats 1000000 in
theorem cx_X1_requireElement (l : Launch) (hst : l.stackTraces = false) {G : zG} {H0 : Heap} {b0 : Bool} (hb0 : ¬ b0 = true) : zM l yX1_requireElement (ws_ yX1_requireElement cX1_requireElement 1 none) rx_cx_X1_requireElement G (zN H0) [.int (iI (bI b0))] H0 (fun _ _ => False) (fun E => E = "java/util/NoSuchElementException") := by
  refine z_enter (by decide +kernel) (Nat.le_of_ble_eq_true rfl) ?_
  intro p e s m args below meth c ls hx hb hret hml hown hts hlocks htab hnm hK hH hl
  subst hH
  have hAn : ∀ q, s.heap.size ≤ q → (zN s.heap) q := fun _ h => h
  have hS : va_S (zN s.heap) s.heap s.heap [] := va_S.rf
  have hS0 := hS
  have hsz_0 : s.heap.size ≤ s.heap.size := Nat.le_refl _
  have hl : lv_has ls 1 [(0, .int (iI (bI b0)))] := hl
  refine lv_iload_n hx hb dX1_requireElement_0 rfl (lv_at hl 0 rfl) ?_
  refine z_ifb_ne (b := b0) (tgt := 12) hx hb dX1_requireElement_1 (by decide) (fun c_1 => ?_) (fun c_1 => ?_)
  · exact absurd c_1 hb0
  · exact vx_throw0 (names := ["java/lang/RuntimeException", "java/lang/Exception"]) (XC := zX _) hx hb hst hown (by decide) (by decide) (hts _ q2255) (hts _ q98) (zat_NoSuchElementException hts hK) (by decide) hK.2.2.2.2.2.2.2.2.2.1 hK.2.2.2.2.2.2.2.2.2.2 hS (hl.1.trans hml.symm) dX1_requireElement_4 dX1_requireElement_7 dX1_requireElement_8 dX1_requireElement_11 (fun x hx => (htab x hx).elim) (by show _ < _; decide) (by show _ ≤ _; decide) (by show _ ≤ _; decide) (by show _ ≤ _; decide) hlocks (fun t _ h1 h2 => ⟨rfl, h1, fun q hq _ => h2 q hq⟩) hS.2.2 (Nat.le_refl _) (Nat.le_refl _)
theorem hn_X1_requirePerson : yX1_requirePerson.cls ≠ "java/lang/invoke/MethodHandle" ∧ yX1_requirePerson.cls ≠ "java/lang/invoke/VarHandle" ∧ (parseMethodDescriptor yX1_requirePerson.desc).map (fun d => d.parameters.length) = some 1 := by decide +kernel
theorem hd_X1_requirePerson : yX1_requirePerson.cls = "CheckoutDesk" ∧ yX1_requirePerson.cls ≠ "java/lang/invoke/MethodHandle" ∧ yX1_requirePerson.cls ≠ "java/lang/invoke/VarHandle" ∧ (parseMethodDescriptor yX1_requirePerson.desc).map (fun d => d.parameters.length) = some 1 := ⟨rfl, hn_X1_requirePerson⟩
abbrev rm_X1_requirePerson : Room := { frames := 9, cells := 0, slots := 0, locals := 140 }
set_option maxHeartbeats 1000000 in
theorem cg_X1_requirePerson (l : Launch) {G : zG} {H0 : Heap} {x0 : Int} (h0 : inR x0) (hb0 : tw_isPerson x0 = true) : zM l yX1_requirePerson (ws_ yX1_requirePerson cX1_requirePerson 1 none) rm_X1_requirePerson G (zN H0) [.int (iI x0)] H0 (fun r H1 => r = none ∧ H1 = H0) (fun _ => False) := by
  refine z_enter (by decide +kernel) (Nat.le_of_ble_eq_true rfl) ?_
  intro p e s m args below meth c ls hx hb hret hml hown hts hlocks htab hnm hK hH hl
  subst hH
  have hAn : ∀ q, s.heap.size ≤ q → (zN s.heap) q := fun _ h => h
  have hS : va_S (zN s.heap) s.heap s.heap [] := va_S.rf
  have hS0 := hS
  have hsz_0 : s.heap.size ≤ s.heap.size := Nat.le_refl _
  have hl : lv_has ls 1 [(0, .int (iI x0))] := hl
  refine lv_iload_n hx hb dX1_requirePerson_0 rfl (lv_at hl 0 rfl) ?_
  refine lv_iconst (v := iI 0) hx hb dX1_requirePerson_1 rfl ?_
  refine lv_iconst (v := iI 5) hx hb dX1_requirePerson_2 rfl ?_
  refine z_callp (vx_runS (As := [.int (iI x0), .int (iI 0), .int (iI 5)]) (rest := []) ⟨hx, hb, hml, hown, hts⟩ (cg_X1_inRange l (x0 := x0) (x1 := 0) (x2 := 5) (by first | with_reducible assumption | omega | exact ⟨by omega, by omega⟩) (by decide) (by decide)) (va_cwS 3 hts (lw_S q936 q296 q43 q297) rfl rfl rfl hn_X1_inRange ⟨Nat.le_of_ble_eq_true rfl, Nat.le_of_ble_eq_true rfl⟩) (z_preS hK hS (zN_le hAn hS)) rfl rfl hl.1 rfl (lv_room (Nat.le_of_ble_eq_true rfl)) dX1_requirePerson_3 ⟨Nat.le_of_ble_eq_true rfl, Nat.le_of_ble_eq_true rfl⟩) hS (zN_le hAn hS) rfl rfl (fun locs hS => ?_)
  have c_1 : (tw_lies x0 0 5) = true := hb0
  refine z_callp0 (vx_runS (As := [.int (iI (bI (tw_lies x0 0 5)))]) (rest := []) ⟨hx, hb, hml, hown, hts⟩ (cg_X1_requireIndex l (b0 := tw_lies x0 0 5) c_1) (va_cwS 1 hts (lw_S q937 q299 q43 q300) rfl rfl rfl hn_X1_requireIndex ⟨Nat.le_of_ble_eq_true rfl, Nat.le_of_ble_eq_true rfl⟩) (z_preS hK hS (zN_le hAn hS)) rfl rfl hl.1 rfl (lv_room (Nat.le_of_ble_eq_true rfl)) dX1_requirePerson_6 ⟨Nat.le_of_ble_eq_true rfl, Nat.le_of_ble_eq_true rfl⟩) hS (zN_le hAn hS) rfl rfl (fun locs hS => ?_)
  exact z_vret hx hb hret hlocks hS ⟨rfl, rfl⟩ (Nat.le_of_ble_eq_true rfl) (Nat.le_of_ble_eq_true rfl) dX1_requirePerson_9
abbrev rx_cx_X1_requirePerson : Room := { frames := 9, cells := 1, slots := 6, locals := 140 }
set_option maxHeartbeats 1000000 in
theorem cx_X1_requirePerson (l : Launch) (hst : l.stackTraces = false) {G : zG} {H0 : Heap} {x0 : Int} (h0 : inR x0) (hb0 : ¬ tw_isPerson x0 = true) : zM l yX1_requirePerson (ws_ yX1_requirePerson cX1_requirePerson 1 none) rx_cx_X1_requirePerson G (zN H0) [.int (iI x0)] H0 (fun _ _ => False) (fun E => E = "java/lang/IndexOutOfBoundsException") := by
  refine z_enter (by decide +kernel) (Nat.le_of_ble_eq_true rfl) ?_
  intro p e s m args below meth c ls hx hb hret hml hown hts hlocks htab hnm hK hH hl
  subst hH
  have hAn : ∀ q, s.heap.size ≤ q → (zN s.heap) q := fun _ h => h
  have hS : va_S (zN s.heap) s.heap s.heap [] := va_S.rf
  have hS0 := hS
  have hsz_0 : s.heap.size ≤ s.heap.size := Nat.le_refl _
  have hl : lv_has ls 1 [(0, .int (iI x0))] := hl
  refine lv_iload_n hx hb dX1_requirePerson_0 rfl (lv_at hl 0 rfl) ?_
  refine lv_iconst (v := iI 0) hx hb dX1_requirePerson_1 rfl ?_
  refine lv_iconst (v := iI 5) hx hb dX1_requirePerson_2 rfl ?_
  refine z_callp (vx_runS (As := [.int (iI x0), .int (iI 0), .int (iI 5)]) (rest := []) ⟨hx, hb, hml, hown, hts⟩ (cg_X1_inRange l (x0 := x0) (x1 := 0) (x2 := 5) (by first | with_reducible assumption | omega | exact ⟨by omega, by omega⟩) (by decide) (by decide)) (va_cwS 3 hts (lw_S q936 q296 q43 q297) rfl rfl rfl hn_X1_inRange ⟨Nat.le_of_ble_eq_true rfl, Nat.le_of_ble_eq_true rfl⟩) (z_preS hK hS (zN_le hAn hS)) rfl rfl hl.1 rfl (lv_room (Nat.le_of_ble_eq_true rfl)) dX1_requirePerson_3 ⟨Nat.le_of_ble_eq_true rfl, Nat.le_of_ble_eq_true rfl⟩) hS (zN_le hAn hS) rfl rfl (fun locs hS => ?_)
  have c_1 : ¬ ((tw_lies x0 0 5) = true) := hb0
  refine z_callB (vx_runS (As := [.int (iI (bI (tw_lies x0 0 5)))]) (rest := []) ⟨hx, hb, hml, hown, hts⟩ (cx_X1_requireIndex l hst (b0 := tw_lies x0 0 5) c_1) (va_cwS 1 hts (lw_S q937 q299 q43 q300) rfl rfl rfl hn_X1_requireIndex ⟨Nat.le_of_ble_eq_true rfl, Nat.le_of_ble_eq_true rfl⟩) (z_preS hK hS (zN_le hAn hS)) rfl rfl hl.1 rfl (lv_room (Nat.le_of_ble_eq_true rfl)) dX1_requirePerson_6 ⟨Nat.le_of_ble_eq_true rfl, Nat.le_of_ble_eq_true rfl⟩) hS (zN_le hAn hS) (fun _ _ => rfl) htab hlocks (fun E hE9 => hE9) (by first | exact Nat.le_of_ble_eq_true rfl | omega) (by first | exact Nat.le_of_ble_eq_true rfl | omega)
theorem hn_X1_isPlace : yX1_isPlace.cls ≠ "java/lang/invoke/MethodHandle" ∧ yX1_isPlace.cls ≠ "java/lang/invoke/VarHandle" ∧ (parseMethodDescriptor yX1_isPlace.desc).map (fun d => d.parameters.length) = some 2 := by decide +kernel
theorem hd_X1_isPlace : yX1_isPlace.cls = "CheckoutDesk" ∧ yX1_isPlace.cls ≠ "java/lang/invoke/MethodHandle" ∧ yX1_isPlace.cls ≠ "java/lang/invoke/VarHandle" ∧ (parseMethodDescriptor yX1_isPlace.desc).map (fun d => d.parameters.length) = some 2 := ⟨rfl, hn_X1_isPlace⟩
abbrev rm_X1_isPlace : Room := { frames := 2, cells := 0, slots := 0, locals := 38 }
set_option maxHeartbeats 1000000 in
theorem cg_X1_isPlace (l : Launch) {G : zG} {H0 : Heap} {x0 x1 : Int} (h0 : inR x0) (h1 : inR x1) : zM l yX1_isPlace (ws_ yX1_isPlace cX1_isPlace 2 (some .boolean)) rm_X1_isPlace G (zN H0) [.int (iI x0), .int (iI x1)] H0 (fun r H1 => r = some (.int (iI (bI (tw_lies x0 0 3 && tw_lies x1 0 (if x0 < 3 then 99 else 9999))))) ∧ H1 = H0) (fun _ => False) := by
  refine z_enter (by decide +kernel) (Nat.le_of_ble_eq_true rfl) ?_
  intro p e s m args below meth c ls hx hb hret hml hown hts hlocks htab hnm hK hH hl
  subst hH
  have hAn : ∀ q, s.heap.size ≤ q → (zN s.heap) q := fun _ h => h
  have hS : va_S (zN s.heap) s.heap s.heap [] := va_S.rf
  have hS0 := hS
  have hsz_0 : s.heap.size ≤ s.heap.size := Nat.le_refl _
  have hl : lv_has ls 2 [(0, .int (iI x0)), (1, .int (iI x1))] := hl
  refine lv_iload_n hx hb dX1_isPlace_0 rfl (lv_at hl 0 rfl) ?_
  refine lv_iconst (v := iI 0) hx hb dX1_isPlace_1 rfl ?_
  refine lv_iconst (v := iI 3) hx hb dX1_isPlace_2 rfl ?_
  refine z_callp (vx_runS (As := [.int (iI x0), .int (iI 0), .int (iI 3)]) (rest := []) ⟨hx, hb, hml, hown, hts⟩ (cg_X1_inRange l (x0 := x0) (x1 := 0) (x2 := 3) (by first | with_reducible assumption | omega | exact ⟨by omega, by omega⟩) (by decide) (by decide)) (va_cwS 3 hts (lw_S q936 q296 q43 q297) rfl rfl rfl hn_X1_inRange ⟨Nat.le_of_ble_eq_true rfl, Nat.le_of_ble_eq_true rfl⟩) (z_preS hK hS (zN_le hAn hS)) rfl rfl hl.1 rfl (lv_room (Nat.le_of_ble_eq_true rfl)) dX1_isPlace_3 ⟨Nat.le_of_ble_eq_true rfl, Nat.le_of_ble_eq_true rfl⟩) hS (zN_le hAn hS) rfl rfl (fun locs hS => ?_)
  refine z_join (pc2 := 35) (nL := 2) (lv := [(0, .int (iI x0)), (1, .int (iI x1))]) (st2 := [.int (iI (bI ((tw_lies x0 0 3) && (tw_lies x1 0 (if x0 < 3 then 99 else 9999)))))]) hS (fun J_1 => ?_) (fun locs ls hS hl => ?_)
  · refine z_ifb_eq (b := tw_lies x0 0 3) (tgt := 34) hx hb dX1_isPlace_6 (by decide) (fun c_2 => ?_) (fun c_2 => ?_)
    · refine lv_iconst (v := iI 0) hx hb dX1_isPlace_34 rfl ?_
      refine z_top (x := 0) (y := bI ((tw_lies x0 0 3) && (tw_lies x1 0 (if x0 < 3 then 99 else 9999)))) (by simp [bI, c_2]) ?_
      exact J_1 _ ls hS (lv_sub hl [0, 1] rfl)
    · refine lv_iload_n hx hb dX1_isPlace_9 rfl (lv_at hl 1 rfl) ?_
      refine lv_iconst (v := iI 0) hx hb dX1_isPlace_10 rfl ?_
      refine lv_iload_n hx hb dX1_isPlace_11 rfl (lv_at hl 0 rfl) ?_
      refine lv_iconst (v := iI 3) hx hb dX1_isPlace_12 rfl ?_
      refine z_join (pc2 := 24) (nL := 2) (lv := [(0, .int (iI x0)), (1, .int (iI x1))]) (st2 := [.int (iI (if x0 < 3 then 99 else 9999)), .int (iI 0), .int (iI x1)]) hS (fun J_3 => ?_) (fun locs ls hS hl => ?_)
      · refine z_icmp_ge (x := x0) (y := 3) (tgt := 21) hx hb (by first | with_reducible assumption | omega | exact ⟨by omega, by omega⟩) (by decide) dX1_isPlace_13 (by decide) (fun c_4 => ?_) (fun c_4 => ?_)
        · refine lv_sipush (v := iI 9999) hx hb dX1_isPlace_21 (by decide) ?_
          refine z_top (x := 9999) (y := if x0 < 3 then 99 else 9999) (by simp [bI, c_4]) ?_
          exact J_3 _ ls hS (lv_sub hl [0, 1] rfl)
        · refine lv_bipush (v := iI 99) hx hb dX1_isPlace_16 (by decide) ?_
          refine lv_goto (tgt := 24) hx hb dX1_isPlace_18 (by decide) ?_
          refine z_top (x := 99) (y := if x0 < 3 then 99 else 9999) (by simp [bI, c_4]) ?_
          exact J_3 _ ls hS (lv_sub hl [0, 1] rfl)
      · refine z_callp (vx_runS (As := [.int (iI x1), .int (iI 0), .int (iI (if x0 < 3 then 99 else 9999))]) (rest := []) ⟨hx, hb, hml, hown, hts⟩ (cg_X1_inRange l (x0 := x1) (x1 := 0) (x2 := if x0 < 3 then 99 else 9999) (by first | with_reducible assumption | omega | exact ⟨by omega, by omega⟩) (by decide) (by (repeat' split) <;> first | decide | assumption | exact ⟨by omega, by omega⟩)) (va_cwS 3 hts (lw_S q936 q296 q43 q297) rfl rfl rfl hn_X1_inRange ⟨Nat.le_of_ble_eq_true rfl, Nat.le_of_ble_eq_true rfl⟩) (z_preS hK hS (zN_le hAn hS)) rfl rfl hl.1 rfl (lv_room (Nat.le_of_ble_eq_true rfl)) dX1_isPlace_24 ⟨Nat.le_of_ble_eq_true rfl, Nat.le_of_ble_eq_true rfl⟩) hS (zN_le hAn hS) rfl rfl (fun locs hS => ?_)
        refine z_ifb_eq (b := tw_lies x1 0 (if x0 < 3 then 99 else 9999)) (tgt := 34) hx hb dX1_isPlace_27 (by decide) (fun c_5 => ?_) (fun c_5 => ?_)
        · refine lv_iconst (v := iI 0) hx hb dX1_isPlace_34 rfl ?_
          refine z_top (x := 0) (y := bI ((tw_lies x0 0 3) && (tw_lies x1 0 (if x0 < 3 then 99 else 9999)))) (by simp [bI, c_2, c_5]) ?_
          exact J_1 _ ls hS (lv_sub hl [0, 1] rfl)
        · refine lv_iconst (v := iI 1) hx hb dX1_isPlace_30 rfl ?_
          refine lv_goto (tgt := 35) hx hb dX1_isPlace_31 (by decide) ?_
          refine z_top (x := 1) (y := bI ((tw_lies x0 0 3) && (tw_lies x1 0 (if x0 < 3 then 99 else 9999)))) (by simp [bI, c_2, c_5]) ?_
          exact J_1 _ ls hS (lv_sub hl [0, 1] rfl)
  · exact z_iret hx hb hret (z_nar _) hlocks hS ⟨rfl, rfl⟩ (Nat.le_of_ble_eq_true rfl) (Nat.le_of_ble_eq_true rfl) dX1_isPlace_35
