set_option maxRecDepth 100000
def qC_clock (w : Int → Int) : Int := 0
def qA_clock (w : Int → Int) : Int := w 0
theorem hn_X4_clock : yX4_clock.cls ≠ "java/lang/invoke/MethodHandle" ∧ yX4_clock.cls ≠ "java/lang/invoke/VarHandle" ∧ (parseMethodDescriptor yX4_clock.desc).map (fun d => d.parameters.length) = some 0 := by decide +kernel
theorem hd_X4_clock : yX4_clock.cls = "CheckoutDeskModel" ∧ yX4_clock.cls ≠ "java/lang/invoke/MethodHandle" ∧ yX4_clock.cls ≠ "java/lang/invoke/VarHandle" ∧ (parseMethodDescriptor yX4_clock.desc).map (fun d => d.parameters.length) = some 0 := ⟨rfl, hn_X4_clock⟩
abbrev rm_X4_clock : Room := { frames := 1, cells := 0, slots := 0, locals := 16 }
set_option maxHeartbeats 1000000 in
theorem tc_clock (l : Launch) {G : zG} {t : zTau} {w kp lg hr : Int → Int} {ev rd th : Int} {H0 : Heap} (hT : zT G t w kp lg hr ev rd th H0) {n_ : Int} (hI : tInv n_ w) (hn_ : n_ < 2000) : zM l yX4_clock (ws_ yX4_clock cX4_clock 1 (some .int)) rm_X4_clock G (zTw t H0) [.ref t.1] H0 (fun r H1 => r = some (.int (iI (qA_clock w))) ∧ zT G t w kp lg hr ev rd (qC_clock w) H1) (fun _ => False) := by
  refine z_enter (by decide +kernel) (Nat.le_of_ble_eq_true rfl) ?_
  intro p e s m args below meth c ls hx hb hret hml hown hts hlocks htab hnm hK hH hl
  subst hH
  have hAn : ∀ q, s.heap.size ≤ q → zTw t s.heap q := fun _ h => Or.inr h
  have hTA : ∀ q, zTA t q → zTw t s.heap q := fun _ h => Or.inl h
  have hS : va_S (zTw t s.heap) s.heap s.heap [] := va_S.rf
  have hl : lv_has ls 1 [(0, .ref t.1)] := hl
  have hrd := hT.2.2.2.2.2.2.2.2.2.2.2
  have hev := hT.2.2.2.2.2.2.2.2.2.2.1
  have hwR := hT.2.2.2.2.2.2.1
  obtain ⟨hD, hV, hL, hB, hVd, hLk, hClk, hDoc, hBr, hVer, hLnk, hNew, hFr⟩ := hI
  refine lv_aload_n hx hb dX4_clock_0 rfl (lv_at hl 0 rfl) ?_
  refine lv_iconst (v := iI 0) hx hb dX4_clock_1 rfl ?_
  refine zt_th (x := 0) hx hb hts hown hK q2337 hT hTA hS dX4_clock_2 (fun H locs hT hS => ?_)
  refine lv_aload_n hx hb dX4_clock_5 rfl (lv_at hl 0 rfl) ?_
  refine z_get (k := 0) hx hb hts in_X4 hown hK hT.1 rfl (by decide) q2331 rfl (v := .ref t.2.1) rfl dX4_clock_6 ?_
  refine lv_iconst (v := iI 0) hx hb dX4_clock_9 rfl ?_
  refine z_ildZ (i := 0) (f := w) hx hb hK hT.2.1 ⟨by omega, by omega⟩ (by decide) dX4_clock_10 ?_
  have r_1 : inR (w 0) := hT.2.2.2.2.2.2.1 0
  exact z_iret hx hb hret rfl hlocks hS ⟨rfl, hT⟩ (Nat.le_of_ble_eq_true rfl) (Nat.le_of_ble_eq_true rfl) dX4_clock_11
def qC_versions (w : Int → Int) : Int := 0
def qA_versions (w : Int → Int) : Int := w 3
theorem hn_X4_versions : yX4_versions.cls ≠ "java/lang/invoke/MethodHandle" ∧ yX4_versions.cls ≠ "java/lang/invoke/VarHandle" ∧ (parseMethodDescriptor yX4_versions.desc).map (fun d => d.parameters.length) = some 0 := by decide +kernel
theorem hd_X4_versions : yX4_versions.cls = "CheckoutDeskModel" ∧ yX4_versions.cls ≠ "java/lang/invoke/MethodHandle" ∧ yX4_versions.cls ≠ "java/lang/invoke/VarHandle" ∧ (parseMethodDescriptor yX4_versions.desc).map (fun d => d.parameters.length) = some 0 := ⟨rfl, hn_X4_versions⟩
abbrev rm_X4_versions : Room := { frames := 1, cells := 0, slots := 0, locals := 16 }
set_option maxHeartbeats 1000000 in
theorem tc_versions (l : Launch) {G : zG} {t : zTau} {w kp lg hr : Int → Int} {ev rd th : Int} {H0 : Heap} (hT : zT G t w kp lg hr ev rd th H0) {n_ : Int} (hI : tInv n_ w) (hn_ : n_ < 2000) : zM l yX4_versions (ws_ yX4_versions cX4_versions 1 (some .int)) rm_X4_versions G (zTw t H0) [.ref t.1] H0 (fun r H1 => r = some (.int (iI (qA_versions w))) ∧ zT G t w kp lg hr ev rd (qC_versions w) H1) (fun _ => False) := by
  refine z_enter (by decide +kernel) (Nat.le_of_ble_eq_true rfl) ?_
  intro p e s m args below meth c ls hx hb hret hml hown hts hlocks htab hnm hK hH hl
  subst hH
  have hAn : ∀ q, s.heap.size ≤ q → zTw t s.heap q := fun _ h => Or.inr h
  have hTA : ∀ q, zTA t q → zTw t s.heap q := fun _ h => Or.inl h
  have hS : va_S (zTw t s.heap) s.heap s.heap [] := va_S.rf
  have hl : lv_has ls 1 [(0, .ref t.1)] := hl
  have hrd := hT.2.2.2.2.2.2.2.2.2.2.2
  have hev := hT.2.2.2.2.2.2.2.2.2.2.1
  have hwR := hT.2.2.2.2.2.2.1
  obtain ⟨hD, hV, hL, hB, hVd, hLk, hClk, hDoc, hBr, hVer, hLnk, hNew, hFr⟩ := hI
  refine lv_aload_n hx hb dX4_versions_0 rfl (lv_at hl 0 rfl) ?_
  refine lv_iconst (v := iI 0) hx hb dX4_versions_1 rfl ?_
  refine zt_th (x := 0) hx hb hts hown hK q2337 hT hTA hS dX4_versions_2 (fun H locs hT hS => ?_)
  refine lv_aload_n hx hb dX4_versions_5 rfl (lv_at hl 0 rfl) ?_
  refine z_get (k := 0) hx hb hts in_X4 hown hK hT.1 rfl (by decide) q2331 rfl (v := .ref t.2.1) rfl dX4_versions_6 ?_
  refine lv_iconst (v := iI 3) hx hb dX4_versions_9 rfl ?_
  refine z_ildZ (i := 3) (f := w) hx hb hK hT.2.1 ⟨by omega, by omega⟩ (by decide) dX4_versions_10 ?_
  have r_1 : inR (w 3) := hT.2.2.2.2.2.2.1 3
  exact z_iret hx hb hret rfl hlocks hS ⟨rfl, hT⟩ (Nat.le_of_ble_eq_true rfl) (Nat.le_of_ble_eq_true rfl) dX4_versions_11
def qC_events (hr : Int → Int) (ev : Int) : Int := 0
def qA_events (hr : Int → Int) (ev : Int) : Int := ev
theorem hn_X4_events : yX4_events.cls ≠ "java/lang/invoke/MethodHandle" ∧ yX4_events.cls ≠ "java/lang/invoke/VarHandle" ∧ (parseMethodDescriptor yX4_events.desc).map (fun d => d.parameters.length) = some 0 := by decide +kernel
theorem hd_X4_events : yX4_events.cls = "CheckoutDeskModel" ∧ yX4_events.cls ≠ "java/lang/invoke/MethodHandle" ∧ yX4_events.cls ≠ "java/lang/invoke/VarHandle" ∧ (parseMethodDescriptor yX4_events.desc).map (fun d => d.parameters.length) = some 0 := ⟨rfl, hn_X4_events⟩
abbrev rm_X4_events : Room := { frames := 1, cells := 0, slots := 0, locals := 16 }
set_option maxHeartbeats 1000000 in
theorem tc_events (l : Launch) {G : zG} {t : zTau} {w kp lg hr : Int → Int} {ev rd th : Int} {H0 : Heap} (hT : zT G t w kp lg hr ev rd th H0)  : zM l yX4_events (ws_ yX4_events cX4_events 1 (some .int)) rm_X4_events G (zTw t H0) [.ref t.1] H0 (fun r H1 => r = some (.int (iI (qA_events hr ev))) ∧ zT G t w kp lg hr ev rd (qC_events hr ev) H1) (fun _ => False) := by
  refine z_enter (by decide +kernel) (Nat.le_of_ble_eq_true rfl) ?_
  intro p e s m args below meth c ls hx hb hret hml hown hts hlocks htab hnm hK hH hl
  subst hH
  have hAn : ∀ q, s.heap.size ≤ q → zTw t s.heap q := fun _ h => Or.inr h
  have hTA : ∀ q, zTA t q → zTw t s.heap q := fun _ h => Or.inl h
  have hS : va_S (zTw t s.heap) s.heap s.heap [] := va_S.rf
  have hl : lv_has ls 1 [(0, .ref t.1)] := hl
  have hrd := hT.2.2.2.2.2.2.2.2.2.2.2
  have hev := hT.2.2.2.2.2.2.2.2.2.2.1
  have hwR := hT.2.2.2.2.2.2.1
  refine lv_aload_n hx hb dX4_events_0 rfl (lv_at hl 0 rfl) ?_
  refine lv_iconst (v := iI 0) hx hb dX4_events_1 rfl ?_
  refine zt_th (x := 0) hx hb hts hown hK q2337 hT hTA hS dX4_events_2 (fun H locs hT hS => ?_)
  refine lv_aload_n hx hb dX4_events_5 rfl (lv_at hl 0 rfl) ?_
  refine z_get (k := 4) hx hb hts in_X4 hown hK hT.1 rfl (by decide) q2335 rfl (v := .int (iI ev)) rfl dX4_events_6 ?_
  exact z_iret hx hb hret rfl hlocks hS ⟨rfl, hT⟩ (Nat.le_of_ble_eq_true rfl) (Nat.le_of_ble_eq_true rfl) dX4_events_9
def qC_branches (w : Int → Int) (a1 : Int) : Int := tw_ok3 (tw_isDocument w a1) true true
def qA_branches (w : Int → Int) (a1 : Int) : Int := if (tw_isDocument w a1) = true then w (5 + 32 * a1 + 1) else 0
theorem hn_X4_branches : yX4_branches.cls ≠ "java/lang/invoke/MethodHandle" ∧ yX4_branches.cls ≠ "java/lang/invoke/VarHandle" ∧ (parseMethodDescriptor yX4_branches.desc).map (fun d => d.parameters.length) = some 1 := by decide +kernel
theorem hd_X4_branches : yX4_branches.cls = "CheckoutDeskModel" ∧ yX4_branches.cls ≠ "java/lang/invoke/MethodHandle" ∧ yX4_branches.cls ≠ "java/lang/invoke/VarHandle" ∧ (parseMethodDescriptor yX4_branches.desc).map (fun d => d.parameters.length) = some 1 := ⟨rfl, hn_X4_branches⟩
abbrev rm_X4_branches : Room := { frames := 3, cells := 0, slots := 0, locals := 60 }
set_option maxHeartbeats 1000000 in
theorem tc_branches (l : Launch) {G : zG} {t : zTau} {w kp lg hr : Int → Int} {ev rd th : Int} {H0 : Heap} (hT : zT G t w kp lg hr ev rd th H0) {a1 : Int} (ha1 : inR a1) {n_ : Int} (hI : tInv n_ w) (hn_ : n_ < 2000) : zM l yX4_branches (ws_ yX4_branches cX4_branches 2 (some .int)) rm_X4_branches G (zTw t H0) [.ref t.1, .int (iI a1)] H0 (fun r H1 => r = some (.int (iI (qA_branches w a1))) ∧ zT G t w kp lg hr ev rd (qC_branches w a1) H1) (fun _ => False) := by
  refine z_enter (by decide +kernel) (Nat.le_of_ble_eq_true rfl) ?_
  intro p e s m args below meth c ls hx hb hret hml hown hts hlocks htab hnm hK hH hl
  subst hH
  have hAn : ∀ q, s.heap.size ≤ q → zTw t s.heap q := fun _ h => Or.inr h
  have hTA : ∀ q, zTA t q → zTw t s.heap q := fun _ h => Or.inl h
  have hS : va_S (zTw t s.heap) s.heap s.heap [] := va_S.rf
  have hl : lv_has ls 2 [(0, .ref t.1), (1, .int (iI a1))] := hl
  have hrd := hT.2.2.2.2.2.2.2.2.2.2.2
  have hev := hT.2.2.2.2.2.2.2.2.2.2.1
  have hwR := hT.2.2.2.2.2.2.1
  obtain ⟨hD, hV, hL, hB, hVd, hLk, hClk, hDoc, hBr, hVer, hLnk, hNew, hFr⟩ := hI
  refine lv_aload_n hx hb dX4_branches_0 rfl (lv_at hl 0 rfl) ?_
  refine lv_aload_n hx hb dX4_branches_1 rfl (lv_at hl 0 rfl) ?_
  refine lv_iload_n hx hb dX4_branches_2 rfl (lv_at hl 1 rfl) ?_
  refine z_callp (vx_runV (As := [.int (iI a1)]) (rest := [.ref t.1]) ⟨hx, hb, hml, hown, hts⟩ (tc_isDocument l hT (d := a1) (by first | with_reducible assumption | omega | exact ⟨by omega, by omega⟩ | omega) (by first | with_reducible assumption | omega | exact ⟨by omega, by omega⟩ | omega)) (cwV 1 hts (lw_V q2412 q2414 qs16 q49 q2415) rfl rfl rfl hd_X4_isDocument ⟨Nat.le_of_ble_eq_true rfl, Nat.le_of_ble_eq_true rfl⟩) (z_preV hK hS (zN_le hAn hS) hT.1 rfl rfl) rfl rfl hl.1 rfl (lv_room (Nat.le_of_ble_eq_true rfl)) dX4_branches_3 ⟨Nat.le_of_ble_eq_true rfl, Nat.le_of_ble_eq_true rfl⟩) hS (zN_le hAn hS) rfl rfl (fun locs hS => ?_)
  refine z_callm (v := .int (iI (bI (tw_isDocument w a1)))) (P := (fun H1 => zT G t w kp lg hr ev rd (tw_ok3 (tw_isDocument w a1) true true) H1)) (vx_runV (As := [.int (iI (bI (tw_isDocument w a1)))]) (rest := []) ⟨hx, hb, hml, hown, hts⟩ (tc_ok_3 l hT (ba := tw_isDocument w a1)) (cwV 1 hts (lw_V q2384 q2386 qs14 q49 q2387) rfl rfl rfl hd_X4_ok_3 ⟨Nat.le_of_ble_eq_true rfl, Nat.le_of_ble_eq_true rfl⟩) (z_preV hK hS (zTw_le hTA hAn hS) hT.1 rfl rfl) rfl rfl hl.1 rfl (lv_room (Nat.le_of_ble_eq_true rfl)) dX4_branches_6 ⟨Nat.le_of_ble_eq_true rfl, Nat.le_of_ble_eq_true rfl⟩) hS (zTw_le hTA hAn hS) rfl rfl (fun H locs hT hS => ?_)
  refine z_join (pc2 := 27) (nL := 2) (lv := [(0, .ref t.1), (1, .int (iI a1))]) (st2 := [.int (iI (if (tw_isDocument w a1) = true then w (5 + 32 * a1 + 1) else 0))]) hS (fun J_1 => ?_) (fun locs ls hS hl => ?_)
  · refine z_ifb_eq (b := tw_isDocument w a1) (tgt := 26) hx hb dX4_branches_9 (by decide) (fun c_2 => ?_) (fun c_2 => ?_)
    · refine lv_iconst (v := iI 0) hx hb dX4_branches_26 rfl ?_
      refine z_top (x := 0) (y := if (tw_isDocument w a1) = true then w (5 + 32 * a1 + 1) else 0) (by simp [bI, c_2]) ?_
      exact J_1 _ ls hS (lv_sub hl [0, 1] rfl)
    · have hd := tw_isDocument_iff.mp c_2
      have hb3 := hB _ hd.1 hd.2
      refine lv_aload_n hx hb dX4_branches_12 rfl (lv_at hl 0 rfl) ?_
      refine z_get (k := 0) hx hb hts in_X4 hown hK hT.1 rfl (by decide) q2331 rfl (v := .ref t.2.1) rfl dX4_branches_13 ?_
      refine lv_iload_n hx hb dX4_branches_16 rfl (lv_at hl 1 rfl) ?_
      refine z_callp (vx_runS (As := [.int (iI a1)]) (rest := [.ref t.2.1]) ⟨hx, hb, hml, hown, hts⟩ (tc_doc l (d := a1)) (va_cwS 1 hts (lw_S q2395 q2396 q49 q2397) rfl rfl rfl hn_X4_doc ⟨Nat.le_of_ble_eq_true rfl, Nat.le_of_ble_eq_true rfl⟩) (z_preS hK hS (zN_le hAn hS)) rfl rfl hl.1 rfl (lv_room (Nat.le_of_ble_eq_true rfl)) dX4_branches_17 ⟨Nat.le_of_ble_eq_true rfl, Nat.le_of_ble_eq_true rfl⟩) hS (zN_le hAn hS) rfl rfl (fun locs hS => ?_)
      refine lv_iconst (v := iI 1) hx hb dX4_branches_20 rfl ?_
      refine z_iadd (x := 5 + 32 * a1) (y := 1) hx hb dX4_branches_21 ?_
      refine z_ildZ (i := 5 + 32 * a1 + 1) (f := w) hx hb hK hT.2.1 ⟨by omega, by omega⟩ (by decide) dX4_branches_22 ?_
      have r_3 : inR (w (5 + 32 * a1 + 1)) := hT.2.2.2.2.2.2.1 (5 + 32 * a1 + 1)
      refine lv_goto (tgt := 27) hx hb dX4_branches_23 (by decide) ?_
      refine z_top (x := w (5 + 32 * a1 + 1)) (y := if (tw_isDocument w a1) = true then w (5 + 32 * a1 + 1) else 0) (by simp [bI, c_2]) ?_
      exact J_1 _ ls hS (lv_sub hl [0, 1] rfl)
  · exact z_iret hx hb hret rfl hlocks hS ⟨rfl, hT⟩ (Nat.le_of_ble_eq_true rfl) (Nat.le_of_ble_eq_true rfl) dX4_branches_27
def qC_rightOf (w : Int → Int) (a1 a2 : Int) : Int := tw_ok3 ((tw_isPerson a1) && (tw_isDocument w a2)) true true
def qA_rightOf (w : Int → Int) (a1 a2 : Int) : Int := if ((tw_isPerson a1) && (tw_isDocument w a2)) = true then tw_right w a1 a2 else 0
theorem hn_X4_rightOf : yX4_rightOf.cls ≠ "java/lang/invoke/MethodHandle" ∧ yX4_rightOf.cls ≠ "java/lang/invoke/VarHandle" ∧ (parseMethodDescriptor yX4_rightOf.desc).map (fun d => d.parameters.length) = some 2 := by decide +kernel
theorem hd_X4_rightOf : yX4_rightOf.cls = "CheckoutDeskModel" ∧ yX4_rightOf.cls ≠ "java/lang/invoke/MethodHandle" ∧ yX4_rightOf.cls ≠ "java/lang/invoke/VarHandle" ∧ (parseMethodDescriptor yX4_rightOf.desc).map (fun d => d.parameters.length) = some 2 := ⟨rfl, hn_X4_rightOf⟩
abbrev rm_X4_rightOf : Room := { frames := 3, cells := 0, slots := 0, locals := 60 }
set_option maxHeartbeats 1000000 in
theorem tc_rightOf (l : Launch) {G : zG} {t : zTau} {w kp lg hr : Int → Int} {ev rd th : Int} {H0 : Heap} (hT : zT G t w kp lg hr ev rd th H0) {a1 a2 : Int} (ha1 : inR a1) (ha2 : inR a2) {n_ : Int} (hI : tInv n_ w) (hn_ : n_ < 2000) : zM l yX4_rightOf (ws_ yX4_rightOf cX4_rightOf 3 (some .int)) rm_X4_rightOf G (zTw t H0) [.ref t.1, .int (iI a1), .int (iI a2)] H0 (fun r H1 => r = some (.int (iI (qA_rightOf w a1 a2))) ∧ zT G t w kp lg hr ev rd (qC_rightOf w a1 a2) H1) (fun _ => False) := by
  refine z_enter (by decide +kernel) (Nat.le_of_ble_eq_true rfl) ?_
  intro p e s m args below meth c ls hx hb hret hml hown hts hlocks htab hnm hK hH hl
  subst hH
  have hAn : ∀ q, s.heap.size ≤ q → zTw t s.heap q := fun _ h => Or.inr h
  have hTA : ∀ q, zTA t q → zTw t s.heap q := fun _ h => Or.inl h
  have hS : va_S (zTw t s.heap) s.heap s.heap [] := va_S.rf
  have hl : lv_has ls 3 [(0, .ref t.1), (1, .int (iI a1)), (2, .int (iI a2))] := hl
  have hrd := hT.2.2.2.2.2.2.2.2.2.2.2
  have hev := hT.2.2.2.2.2.2.2.2.2.2.1
  have hwR := hT.2.2.2.2.2.2.1
  obtain ⟨hD, hV, hL, hB, hVd, hLk, hClk, hDoc, hBr, hVer, hLnk, hNew, hFr⟩ := hI
  refine lv_aload_n hx hb dX4_rightOf_0 rfl (lv_at hl 0 rfl) ?_
  refine lv_iload_n hx hb dX4_rightOf_1 rfl (lv_at hl 1 rfl) ?_
  refine z_callp (vx_runS (As := [.int (iI a1)]) (rest := [.ref t.1]) ⟨hx, hb, hml, hown, hts⟩ (tc_isPerson l (p_ := a1) (by first | with_reducible assumption | omega | exact ⟨by omega, by omega⟩ | omega)) (va_cwS 1 hts (lw_S q2392 q2393 q49 q2394) rfl rfl rfl hn_X4_isPerson ⟨Nat.le_of_ble_eq_true rfl, Nat.le_of_ble_eq_true rfl⟩) (z_preS hK hS (zN_le hAn hS)) rfl rfl hl.1 rfl (lv_room (Nat.le_of_ble_eq_true rfl)) dX4_rightOf_2 ⟨Nat.le_of_ble_eq_true rfl, Nat.le_of_ble_eq_true rfl⟩) hS (zN_le hAn hS) rfl rfl (fun locs hS => ?_)
  refine z_join (pc2 := 21) (nL := 3) (lv := [(0, .ref t.1), (1, .int (iI a1)), (2, .int (iI a2))]) (st2 := [.int (iI (bI ((tw_isPerson a1) && (tw_isDocument w a2)))), .ref t.1]) hS (fun J_1 => ?_) (fun locs ls hS hl => ?_)
  · refine z_ifb_eq (b := tw_isPerson a1) (tgt := 20) hx hb dX4_rightOf_5 (by decide) (fun c_2 => ?_) (fun c_2 => ?_)
    · refine lv_iconst (v := iI 0) hx hb dX4_rightOf_20 rfl ?_
      refine z_top (x := 0) (y := bI ((tw_isPerson a1) && (tw_isDocument w a2))) (by simp [bI, c_2]) ?_
      exact J_1 _ ls hS (lv_sub hl [0, 1, 2] rfl)
    · refine lv_aload_n hx hb dX4_rightOf_8 rfl (lv_at hl 0 rfl) ?_
      refine lv_iload_n hx hb dX4_rightOf_9 rfl (lv_at hl 2 rfl) ?_
      refine z_callp (vx_runV (As := [.int (iI a2)]) (rest := [.ref t.1]) ⟨hx, hb, hml, hown, hts⟩ (tc_isDocument l hT (d := a2) (by first | with_reducible assumption | omega | exact ⟨by omega, by omega⟩ | omega) (by first | with_reducible assumption | omega | exact ⟨by omega, by omega⟩ | omega)) (cwV 1 hts (lw_V q2412 q2414 qs16 q49 q2415) rfl rfl rfl hd_X4_isDocument ⟨Nat.le_of_ble_eq_true rfl, Nat.le_of_ble_eq_true rfl⟩) (z_preV hK hS (zN_le hAn hS) hT.1 rfl rfl) rfl rfl hl.1 rfl (lv_room (Nat.le_of_ble_eq_true rfl)) dX4_rightOf_10 ⟨Nat.le_of_ble_eq_true rfl, Nat.le_of_ble_eq_true rfl⟩) hS (zN_le hAn hS) rfl rfl (fun locs hS => ?_)
      refine z_ifb_eq (b := tw_isDocument w a2) (tgt := 20) hx hb dX4_rightOf_13 (by decide) (fun c_3 => ?_) (fun c_3 => ?_)
      · refine lv_iconst (v := iI 0) hx hb dX4_rightOf_20 rfl ?_
        refine z_top (x := 0) (y := bI ((tw_isPerson a1) && (tw_isDocument w a2))) (by simp [bI, c_2, c_3]) ?_
        exact J_1 _ ls hS (lv_sub hl [0, 1, 2] rfl)
      · refine lv_iconst (v := iI 1) hx hb dX4_rightOf_16 rfl ?_
        refine lv_goto (tgt := 21) hx hb dX4_rightOf_17 (by decide) ?_
        refine z_top (x := 1) (y := bI ((tw_isPerson a1) && (tw_isDocument w a2))) (by simp [bI, c_2, c_3]) ?_
        exact J_1 _ ls hS (lv_sub hl [0, 1, 2] rfl)
  · refine z_callm (v := .int (iI (bI ((tw_isPerson a1) && (tw_isDocument w a2))))) (P := (fun H1 => zT G t w kp lg hr ev rd (tw_ok3 ((tw_isPerson a1) && (tw_isDocument w a2)) true true) H1)) (vx_runV (As := [.int (iI (bI ((tw_isPerson a1) && (tw_isDocument w a2))))]) (rest := []) ⟨hx, hb, hml, hown, hts⟩ (tc_ok_3 l hT (ba := (tw_isPerson a1) && (tw_isDocument w a2))) (cwV 1 hts (lw_V q2384 q2386 qs14 q49 q2387) rfl rfl rfl hd_X4_ok_3 ⟨Nat.le_of_ble_eq_true rfl, Nat.le_of_ble_eq_true rfl⟩) (z_preV hK hS (zTw_le hTA hAn hS) hT.1 rfl rfl) rfl rfl hl.1 rfl (lv_room (Nat.le_of_ble_eq_true rfl)) dX4_rightOf_21 ⟨Nat.le_of_ble_eq_true rfl, Nat.le_of_ble_eq_true rfl⟩) hS (zTw_le hTA hAn hS) rfl rfl (fun H locs hT hS => ?_)
    refine z_join (pc2 := 37) (nL := 3) (lv := [(0, .ref t.1), (1, .int (iI a1)), (2, .int (iI a2))]) (st2 := [.int (iI (if ((tw_isPerson a1) && (tw_isDocument w a2)) = true then tw_right w a1 a2 else 0))]) hS (fun J_4 => ?_) (fun locs ls hS hl => ?_)
    · refine z_ifb_eq (b := (tw_isPerson a1) && (tw_isDocument w a2)) (tgt := 36) hx hb dX4_rightOf_24 (by decide) (fun c_5 => ?_) (fun c_5 => ?_)
      · refine lv_iconst (v := iI 0) hx hb dX4_rightOf_36 rfl ?_
        refine z_top (x := 0) (y := if ((tw_isPerson a1) && (tw_isDocument w a2)) = true then tw_right w a1 a2 else 0) (by simp [bI, c_5]) ?_
        exact J_4 _ ls hS (lv_sub hl [0, 1, 2] rfl)
      · obtain ⟨c1_, c2_⟩ := Bool.and_eq_true_iff.mp c_5
        have hp := tw_isPerson_iff.mp c1_
        have hd := tw_isDocument_iff.mp c2_
        refine lv_aload_n hx hb dX4_rightOf_27 rfl (lv_at hl 0 rfl) ?_
        refine lv_iload_n hx hb dX4_rightOf_28 rfl (lv_at hl 1 rfl) ?_
        refine lv_iload_n hx hb dX4_rightOf_29 rfl (lv_at hl 2 rfl) ?_
        refine z_callp (vx_runV (As := [.int (iI a1), .int (iI a2)]) (rest := []) ⟨hx, hb, hml, hown, hts⟩ (tc_right l hT (p_ := a1) (d := a2) (by first | with_reducible assumption | omega | exact ⟨by omega, by omega⟩ | omega) (by first | with_reducible assumption | omega | exact ⟨by omega, by omega⟩ | omega)) (cwV 2 hts (lw_V q2432 q2434 qs20 q49 q2435) rfl rfl rfl hd_X4_right ⟨Nat.le_of_ble_eq_true rfl, Nat.le_of_ble_eq_true rfl⟩) (z_preV hK hS (zN_le hAn hS) hT.1 rfl rfl) rfl rfl hl.1 rfl (lv_room (Nat.le_of_ble_eq_true rfl)) dX4_rightOf_30 ⟨Nat.le_of_ble_eq_true rfl, Nat.le_of_ble_eq_true rfl⟩) hS (zN_le hAn hS) rfl rfl (fun locs hS => ?_)
        refine lv_goto (tgt := 37) hx hb dX4_rightOf_33 (by decide) ?_
        refine z_top (x := tw_right w a1 a2) (y := if ((tw_isPerson a1) && (tw_isDocument w a2)) = true then tw_right w a1 a2 else 0) (by simp [bI, c_5]) ?_
        exact J_4 _ ls hS (lv_sub hl [0, 1, 2] rfl)
    · exact z_iret hx hb hret rfl hlocks hS ⟨rfl, hT⟩ (Nat.le_of_ble_eq_true rfl) (Nat.le_of_ble_eq_true rfl) dX4_rightOf_37
def qC_numberOf (w : Int → Int) (a1 : Int) : Int := tw_ok3 (tw_isVersion w a1) true true
def qA_numberOf (w : Int → Int) (a1 : Int) : Int := 1000000 * w (261 + 9 * a1) + 100000 * w (261 + 9 * a1 + 1) + 100 * w (261 + 9 * a1 + 2) + w (261 + 9 * a1 + 3)
theorem hn_X4_numberOf : yX4_numberOf.cls ≠ "java/lang/invoke/MethodHandle" ∧ yX4_numberOf.cls ≠ "java/lang/invoke/VarHandle" ∧ (parseMethodDescriptor yX4_numberOf.desc).map (fun d => d.parameters.length) = some 1 := by decide +kernel
theorem hd_X4_numberOf : yX4_numberOf.cls = "CheckoutDeskModel" ∧ yX4_numberOf.cls ≠ "java/lang/invoke/MethodHandle" ∧ yX4_numberOf.cls ≠ "java/lang/invoke/VarHandle" ∧ (parseMethodDescriptor yX4_numberOf.desc).map (fun d => d.parameters.length) = some 1 := ⟨rfl, hn_X4_numberOf⟩
abbrev rm_X4_numberOf : Room := { frames := 3, cells := 0, slots := 0, locals := 60 }
set_option maxHeartbeats 1000000 in
theorem tc_numberOf (l : Launch) {G : zG} {t : zTau} {w kp lg hr : Int → Int} {ev rd th : Int} {H0 : Heap} (hT : zT G t w kp lg hr ev rd th H0) {a1 : Int} (ha1 : inR a1) {n_ : Int} (hI : tInv n_ w) (hn_ : n_ < 2000) : zM l yX4_numberOf (ws_ yX4_numberOf cX4_numberOf 3 (some .int)) rm_X4_numberOf G (zTw t H0) [.ref t.1, .int (iI a1)] H0 (fun r H1 => r = some (.int (iI (kA (qC_numberOf w a1) (qA_numberOf w a1)))) ∧ zT G t w kp lg hr ev rd (qC_numberOf w a1) H1) (fun _ => False) := by
  refine z_enter (by decide +kernel) (Nat.le_of_ble_eq_true rfl) ?_
  intro p e s m args below meth c ls hx hb hret hml hown hts hlocks htab hnm hK hH hl
  subst hH
  have hAn : ∀ q, s.heap.size ≤ q → zTw t s.heap q := fun _ h => Or.inr h
  have hTA : ∀ q, zTA t q → zTw t s.heap q := fun _ h => Or.inl h
  have hS : va_S (zTw t s.heap) s.heap s.heap [] := va_S.rf
  have hl : lv_has ls 3 [(0, .ref t.1), (1, .int (iI a1))] := hl
  have hrd := hT.2.2.2.2.2.2.2.2.2.2.2
  have hev := hT.2.2.2.2.2.2.2.2.2.2.1
  have hwR := hT.2.2.2.2.2.2.1
  obtain ⟨hD, hV, hL, hB, hVd, hLk, hClk, hDoc, hBr, hVer, hLnk, hNew, hFr⟩ := hI
  refine lv_aload_n hx hb dX4_numberOf_0 rfl (lv_at hl 0 rfl) ?_
  refine lv_aload_n hx hb dX4_numberOf_1 rfl (lv_at hl 0 rfl) ?_
  refine lv_iload_n hx hb dX4_numberOf_2 rfl (lv_at hl 1 rfl) ?_
  refine z_callp (vx_runV (As := [.int (iI a1)]) (rest := [.ref t.1]) ⟨hx, hb, hml, hown, hts⟩ (tc_isVersion l hT (v := a1) (by first | with_reducible assumption | omega | exact ⟨by omega, by omega⟩ | omega) (by first | with_reducible assumption | omega | exact ⟨by omega, by omega⟩ | omega)) (cwV 1 hts (lw_V q2501 q2503 qs30 q49 q2504) rfl rfl rfl hd_X4_isVersion ⟨Nat.le_of_ble_eq_true rfl, Nat.le_of_ble_eq_true rfl⟩) (z_preV hK hS (zN_le hAn hS) hT.1 rfl rfl) rfl rfl hl.1 rfl (lv_room (Nat.le_of_ble_eq_true rfl)) dX4_numberOf_3 ⟨Nat.le_of_ble_eq_true rfl, Nat.le_of_ble_eq_true rfl⟩) hS (zN_le hAn hS) rfl rfl (fun locs hS => ?_)
  refine z_callm (v := .int (iI (bI (tw_isVersion w a1)))) (P := (fun H1 => zT G t w kp lg hr ev rd (tw_ok3 (tw_isVersion w a1) true true) H1)) (vx_runV (As := [.int (iI (bI (tw_isVersion w a1)))]) (rest := []) ⟨hx, hb, hml, hown, hts⟩ (tc_ok_3 l hT (ba := tw_isVersion w a1)) (cwV 1 hts (lw_V q2384 q2386 qs14 q49 q2387) rfl rfl rfl hd_X4_ok_3 ⟨Nat.le_of_ble_eq_true rfl, Nat.le_of_ble_eq_true rfl⟩) (z_preV hK hS (zTw_le hTA hAn hS) hT.1 rfl rfl) rfl rfl hl.1 rfl (lv_room (Nat.le_of_ble_eq_true rfl)) dX4_numberOf_6 ⟨Nat.le_of_ble_eq_true rfl, Nat.le_of_ble_eq_true rfl⟩) hS (zTw_le hTA hAn hS) rfl rfl (fun H locs hT hS => ?_)
  refine z_ifb_ne (b := tw_isVersion w a1) (tgt := 14) hx hb dX4_numberOf_9 (by decide) (fun c_1 => ?_) (fun c_1 => ?_)
  · have hvx := tw_isVersion_iff.mp c_1
    have hvd := hVd _ hvx.1.1 hvx.1.2
    refine lv_iload_n hx hb dX4_numberOf_14 rfl (lv_at hl 1 rfl) ?_
    refine z_callp (vx_runS (As := [.int (iI a1)]) (rest := []) ⟨hx, hb, hml, hown, hts⟩ (tc_ver l (v := a1)) (va_cwS 1 hts (lw_S q2405 q2406 q49 q2407) rfl rfl rfl hn_X4_ver ⟨Nat.le_of_ble_eq_true rfl, Nat.le_of_ble_eq_true rfl⟩) (z_preS hK hS (zN_le hAn hS)) rfl rfl hl.1 rfl (lv_room (Nat.le_of_ble_eq_true rfl)) dX4_numberOf_15 ⟨Nat.le_of_ble_eq_true rfl, Nat.le_of_ble_eq_true rfl⟩) hS (zN_le hAn hS) rfl rfl (fun locs hS => ?_)
    refine lv_istore_n (lv' := [(2, .int (iI (261 + 9 * a1))), (0, .ref t.1), (1, .int (iI a1))]) hx hb dX4_numberOf_18 rfl hl (by decide) rfl (fun ls hl => ?_)
    refine lv_ldc hx hb hown (hts _ q2553) dX4_numberOf_19 ?_
    refine z_top32 (y := 1000000) (by decide) ?_
    refine lv_aload_n hx hb dX4_numberOf_21 rfl (lv_at hl 1 rfl) ?_
    refine z_get (k := 0) hx hb hts in_X4 hown hK hT.1 rfl (by decide) q2331 rfl (v := .ref t.2.1) rfl dX4_numberOf_22 ?_
    refine lv_iload_n hx hb dX4_numberOf_25 rfl (lv_at hl 0 rfl) ?_
    refine lv_iconst (v := iI 0) hx hb dX4_numberOf_26 rfl ?_
    refine z_iadd0 hx hb dX4_numberOf_27 ?_
    refine z_ildZ (i := 261 + 9 * a1) (f := w) hx hb hK hT.2.1 ⟨by omega, by omega⟩ (by decide) dX4_numberOf_28 ?_
    have r_2 : inR (w (261 + 9 * a1)) := hT.2.2.2.2.2.2.1 (261 + 9 * a1)
    refine z_imul (x := 1000000) (y := w (261 + 9 * a1)) hx hb dX4_numberOf_29 ?_
    refine lv_ldc hx hb hown (hts _ q2554) dX4_numberOf_30 ?_
    refine z_top32 (y := 100000) (by decide) ?_
    refine lv_aload_n hx hb dX4_numberOf_32 rfl (lv_at hl 1 rfl) ?_
    refine z_get (k := 0) hx hb hts in_X4 hown hK hT.1 rfl (by decide) q2331 rfl (v := .ref t.2.1) rfl dX4_numberOf_33 ?_
    refine lv_iload_n hx hb dX4_numberOf_36 rfl (lv_at hl 0 rfl) ?_
    refine lv_iconst (v := iI 1) hx hb dX4_numberOf_37 rfl ?_
    refine z_iadd (x := 261 + 9 * a1) (y := 1) hx hb dX4_numberOf_38 ?_
    refine z_ildZ (i := 261 + 9 * a1 + 1) (f := w) hx hb hK hT.2.1 ⟨by omega, by omega⟩ (by decide) dX4_numberOf_39 ?_
    have r_3 : inR (w (261 + 9 * a1 + 1)) := hT.2.2.2.2.2.2.1 (261 + 9 * a1 + 1)
    refine z_imul (x := 100000) (y := w (261 + 9 * a1 + 1)) hx hb dX4_numberOf_40 ?_
    refine z_iadd (x := 1000000 * w (261 + 9 * a1)) (y := 100000 * w (261 + 9 * a1 + 1)) hx hb dX4_numberOf_41 ?_
    refine lv_bipush (v := iI 100) hx hb dX4_numberOf_42 (by decide) ?_
    refine lv_aload_n hx hb dX4_numberOf_44 rfl (lv_at hl 1 rfl) ?_
    refine z_get (k := 0) hx hb hts in_X4 hown hK hT.1 rfl (by decide) q2331 rfl (v := .ref t.2.1) rfl dX4_numberOf_45 ?_
    refine lv_iload_n hx hb dX4_numberOf_48 rfl (lv_at hl 0 rfl) ?_
    refine lv_iconst (v := iI 2) hx hb dX4_numberOf_49 rfl ?_
    refine z_iadd (x := 261 + 9 * a1) (y := 2) hx hb dX4_numberOf_50 ?_
    refine z_ildZ (i := 261 + 9 * a1 + 2) (f := w) hx hb hK hT.2.1 ⟨by omega, by omega⟩ (by decide) dX4_numberOf_51 ?_
    have r_4 : inR (w (261 + 9 * a1 + 2)) := hT.2.2.2.2.2.2.1 (261 + 9 * a1 + 2)
    refine z_imul (x := 100) (y := w (261 + 9 * a1 + 2)) hx hb dX4_numberOf_52 ?_
    refine z_iadd (x := 1000000 * w (261 + 9 * a1) + 100000 * w (261 + 9 * a1 + 1)) (y := 100 * w (261 + 9 * a1 + 2)) hx hb dX4_numberOf_53 ?_
    refine lv_aload_n hx hb dX4_numberOf_54 rfl (lv_at hl 1 rfl) ?_
    refine z_get (k := 0) hx hb hts in_X4 hown hK hT.1 rfl (by decide) q2331 rfl (v := .ref t.2.1) rfl dX4_numberOf_55 ?_
    refine lv_iload_n hx hb dX4_numberOf_58 rfl (lv_at hl 0 rfl) ?_
    refine lv_iconst (v := iI 3) hx hb dX4_numberOf_59 rfl ?_
    refine z_iadd (x := 261 + 9 * a1) (y := 3) hx hb dX4_numberOf_60 ?_
    refine z_ildZ (i := 261 + 9 * a1 + 3) (f := w) hx hb hK hT.2.1 ⟨by omega, by omega⟩ (by decide) dX4_numberOf_61 ?_
    have r_5 : inR (w (261 + 9 * a1 + 3)) := hT.2.2.2.2.2.2.1 (261 + 9 * a1 + 3)
    refine z_iadd (x := 1000000 * w (261 + 9 * a1) + 100000 * w (261 + 9 * a1 + 1) + 100 * w (261 + 9 * a1 + 2)) (y := w (261 + 9 * a1 + 3)) hx hb dX4_numberOf_62 ?_
    exact z_iret hx hb hret rfl hlocks hS (by have hc : qC_numberOf w a1 = 0 := (by unfold qC_numberOf; simp only [tw_ok3_0]; first | assumption | (simp_all; done)); exact ⟨by rw [kA, if_pos hc]; rfl, hT⟩) (Nat.le_of_ble_eq_true rfl) (Nat.le_of_ble_eq_true rfl) dX4_numberOf_63
  · refine lv_iconst (v := iI 0) hx hb dX4_numberOf_12 rfl ?_
    exact z_iret hx hb hret rfl hlocks hS (by have hc : ¬ qC_numberOf w a1 = 0 := (by unfold qC_numberOf; simp only [tw_ok3_0]; first | (simp_all; done) | assumption); exact ⟨by rw [kA, if_neg hc], hT⟩) (Nat.le_of_ble_eq_true rfl) (Nat.le_of_ble_eq_true rfl) dX4_numberOf_13
def qC_valueOf (w : Int → Int) (a1 a2 : Int) : Int := tw_ok3 (tw_isVersion w a1) (tw_lies a2 0 3) true
def qA_valueOf (w : Int → Int) (a1 a2 : Int) : Int := if ((tw_isVersion w a1) && (tw_lies a2 0 3)) = true then w (261 + 9 * a1 + 4 + a2) else 0
theorem hn_X4_valueOf : yX4_valueOf.cls ≠ "java/lang/invoke/MethodHandle" ∧ yX4_valueOf.cls ≠ "java/lang/invoke/VarHandle" ∧ (parseMethodDescriptor yX4_valueOf.desc).map (fun d => d.parameters.length) = some 2 := by decide +kernel
theorem hd_X4_valueOf : yX4_valueOf.cls = "CheckoutDeskModel" ∧ yX4_valueOf.cls ≠ "java/lang/invoke/MethodHandle" ∧ yX4_valueOf.cls ≠ "java/lang/invoke/VarHandle" ∧ (parseMethodDescriptor yX4_valueOf.desc).map (fun d => d.parameters.length) = some 2 := ⟨rfl, hn_X4_valueOf⟩
abbrev rm_X4_valueOf : Room := { frames := 3, cells := 0, slots := 0, locals := 61 }
set_option maxHeartbeats 1000000 in
theorem tc_valueOf (l : Launch) {G : zG} {t : zTau} {w kp lg hr : Int → Int} {ev rd th : Int} {H0 : Heap} (hT : zT G t w kp lg hr ev rd th H0) {a1 a2 : Int} (ha1 : inR a1) (ha2 : inR a2) {n_ : Int} (hI : tInv n_ w) (hn_ : n_ < 2000) : zM l yX4_valueOf (ws_ yX4_valueOf cX4_valueOf 3 (some .int)) rm_X4_valueOf G (zTw t H0) [.ref t.1, .int (iI a1), .int (iI a2)] H0 (fun r H1 => r = some (.int (iI (qA_valueOf w a1 a2))) ∧ zT G t w kp lg hr ev rd (qC_valueOf w a1 a2) H1) (fun _ => False) := by
  refine z_enter (by decide +kernel) (Nat.le_of_ble_eq_true rfl) ?_
  intro p e s m args below meth c ls hx hb hret hml hown hts hlocks htab hnm hK hH hl
  subst hH
  have hAn : ∀ q, s.heap.size ≤ q → zTw t s.heap q := fun _ h => Or.inr h
  have hTA : ∀ q, zTA t q → zTw t s.heap q := fun _ h => Or.inl h
  have hS : va_S (zTw t s.heap) s.heap s.heap [] := va_S.rf
  have hl : lv_has ls 3 [(0, .ref t.1), (1, .int (iI a1)), (2, .int (iI a2))] := hl
  have hrd := hT.2.2.2.2.2.2.2.2.2.2.2
  have hev := hT.2.2.2.2.2.2.2.2.2.2.1
  have hwR := hT.2.2.2.2.2.2.1
  obtain ⟨hD, hV, hL, hB, hVd, hLk, hClk, hDoc, hBr, hVer, hLnk, hNew, hFr⟩ := hI
  refine lv_aload_n hx hb dX4_valueOf_0 rfl (lv_at hl 0 rfl) ?_
  refine lv_aload_n hx hb dX4_valueOf_1 rfl (lv_at hl 0 rfl) ?_
  refine lv_iload_n hx hb dX4_valueOf_2 rfl (lv_at hl 1 rfl) ?_
  refine z_callp (vx_runV (As := [.int (iI a1)]) (rest := [.ref t.1]) ⟨hx, hb, hml, hown, hts⟩ (tc_isVersion l hT (v := a1) (by first | with_reducible assumption | omega | exact ⟨by omega, by omega⟩ | omega) (by first | with_reducible assumption | omega | exact ⟨by omega, by omega⟩ | omega)) (cwV 1 hts (lw_V q2501 q2503 qs30 q49 q2504) rfl rfl rfl hd_X4_isVersion ⟨Nat.le_of_ble_eq_true rfl, Nat.le_of_ble_eq_true rfl⟩) (z_preV hK hS (zN_le hAn hS) hT.1 rfl rfl) rfl rfl hl.1 rfl (lv_room (Nat.le_of_ble_eq_true rfl)) dX4_valueOf_3 ⟨Nat.le_of_ble_eq_true rfl, Nat.le_of_ble_eq_true rfl⟩) hS (zN_le hAn hS) rfl rfl (fun locs hS => ?_)
  refine lv_iload_n hx hb dX4_valueOf_6 rfl (lv_at hl 2 rfl) ?_
  refine lv_iconst (v := iI 0) hx hb dX4_valueOf_7 rfl ?_
  refine lv_iconst (v := iI 3) hx hb dX4_valueOf_8 rfl ?_
  refine z_callp (vx_runS (As := [.int (iI a2), .int (iI 0), .int (iI 3)]) (rest := [.int (iI (bI (tw_isVersion w a1))), .ref t.1]) ⟨hx, hb, hml, hown, hts⟩ (tc_lies l (v := a2) (low := 0) (high := 3) (by first | with_reducible assumption | omega | exact ⟨by omega, by omega⟩ | omega) (by first | with_reducible assumption | omega | exact ⟨by omega, by omega⟩ | omega) (by first | with_reducible assumption | omega | exact ⟨by omega, by omega⟩ | omega)) (va_cwS 3 hts (lw_S q2365 q2366 q49 q2367) rfl rfl rfl hn_X4_lies ⟨Nat.le_of_ble_eq_true rfl, Nat.le_of_ble_eq_true rfl⟩) (z_preS hK hS (zN_le hAn hS)) rfl rfl hl.1 rfl (lv_room (Nat.le_of_ble_eq_true rfl)) dX4_valueOf_9 ⟨Nat.le_of_ble_eq_true rfl, Nat.le_of_ble_eq_true rfl⟩) hS (zN_le hAn hS) rfl rfl (fun locs hS => ?_)
  refine z_callm (v := .int (iI (bI ((tw_isVersion w a1) && (tw_lies a2 0 3))))) (P := (fun H1 => zT G t w kp lg hr ev rd (tw_ok3 (tw_isVersion w a1) (tw_lies a2 0 3) true) H1)) (vx_runV (As := [.int (iI (bI (tw_isVersion w a1))), .int (iI (bI (tw_lies a2 0 3)))]) (rest := []) ⟨hx, hb, hml, hown, hts⟩ (tc_ok l hT (ba := tw_isVersion w a1) (bb := tw_lies a2 0 3)) (cwV 2 hts (lw_V q2368 q2370 qs11 q49 q2371) rfl rfl rfl hd_X4_ok ⟨Nat.le_of_ble_eq_true rfl, Nat.le_of_ble_eq_true rfl⟩) (z_preV hK hS (zTw_le hTA hAn hS) hT.1 rfl rfl) rfl rfl hl.1 rfl (lv_room (Nat.le_of_ble_eq_true rfl)) dX4_valueOf_12 ⟨Nat.le_of_ble_eq_true rfl, Nat.le_of_ble_eq_true rfl⟩) hS (zTw_le hTA hAn hS) rfl rfl (fun H locs hT hS => ?_)
  refine z_join (pc2 := 35) (nL := 3) (lv := [(0, .ref t.1), (1, .int (iI a1)), (2, .int (iI a2))]) (st2 := [.int (iI (if ((tw_isVersion w a1) && (tw_lies a2 0 3)) = true then w (261 + 9 * a1 + 4 + a2) else 0))]) hS (fun J_1 => ?_) (fun locs ls hS hl => ?_)
  · refine z_ifb_eq (b := (tw_isVersion w a1) && (tw_lies a2 0 3)) (tgt := 34) hx hb dX4_valueOf_15 (by decide) (fun c_2 => ?_) (fun c_2 => ?_)
    · refine lv_iconst (v := iI 0) hx hb dX4_valueOf_34 rfl ?_
      refine z_top (x := 0) (y := if ((tw_isVersion w a1) && (tw_lies a2 0 3)) = true then w (261 + 9 * a1 + 4 + a2) else 0) (by simp [bI, c_2]) ?_
      exact J_1 _ ls hS (lv_sub hl [0, 1, 2] rfl)
    · obtain ⟨c1_, c2_⟩ := Bool.and_eq_true_iff.mp c_2
      have hvx := tw_isVersion_iff.mp c1_
      have hwh := tw_lies_iff.mp c2_
      refine lv_aload_n hx hb dX4_valueOf_18 rfl (lv_at hl 0 rfl) ?_
      refine z_get (k := 0) hx hb hts in_X4 hown hK hT.1 rfl (by decide) q2331 rfl (v := .ref t.2.1) rfl dX4_valueOf_19 ?_
      refine lv_iload_n hx hb dX4_valueOf_22 rfl (lv_at hl 1 rfl) ?_
      refine z_callp (vx_runS (As := [.int (iI a1)]) (rest := [.ref t.2.1]) ⟨hx, hb, hml, hown, hts⟩ (tc_ver l (v := a1)) (va_cwS 1 hts (lw_S q2405 q2406 q49 q2407) rfl rfl rfl hn_X4_ver ⟨Nat.le_of_ble_eq_true rfl, Nat.le_of_ble_eq_true rfl⟩) (z_preS hK hS (zN_le hAn hS)) rfl rfl hl.1 rfl (lv_room (Nat.le_of_ble_eq_true rfl)) dX4_valueOf_23 ⟨Nat.le_of_ble_eq_true rfl, Nat.le_of_ble_eq_true rfl⟩) hS (zN_le hAn hS) rfl rfl (fun locs hS => ?_)
      refine lv_iconst (v := iI 4) hx hb dX4_valueOf_26 rfl ?_
      refine z_iadd (x := 261 + 9 * a1) (y := 4) hx hb dX4_valueOf_27 ?_
      refine lv_iload_n hx hb dX4_valueOf_28 rfl (lv_at hl 2 rfl) ?_
      refine z_iadd (x := 261 + 9 * a1 + 4) (y := a2) hx hb dX4_valueOf_29 ?_
      refine z_ildZ (i := 261 + 9 * a1 + 4 + a2) (f := w) hx hb hK hT.2.1 ⟨by omega, by omega⟩ (by decide) dX4_valueOf_30 ?_
      have r_3 : inR (w (261 + 9 * a1 + 4 + a2)) := hT.2.2.2.2.2.2.1 (261 + 9 * a1 + 4 + a2)
      refine lv_goto (tgt := 35) hx hb dX4_valueOf_31 (by decide) ?_
      refine z_top (x := w (261 + 9 * a1 + 4 + a2)) (y := if ((tw_isVersion w a1) && (tw_lies a2 0 3)) = true then w (261 + 9 * a1 + 4 + a2) else 0) (by simp [bI, c_2]) ?_
      exact J_1 _ ls hS (lv_sub hl [0, 1, 2] rfl)
  · exact z_iret hx hb hret rfl hlocks hS ⟨rfl, hT⟩ (Nat.le_of_ble_eq_true rfl) (Nat.le_of_ble_eq_true rfl) dX4_valueOf_35
def qC_newest (w : Int → Int) (a1 a2 : Int) : Int := tw_ok3 (tw_isBranch w a1 a2) true true
def qA_newest (w : Int → Int) (a1 a2 : Int) : Int := if (tw_isBranch w a1 a2) = true then tw_newestOf w a1 a2 else 0
theorem hn_X4_newest : yX4_newest.cls ≠ "java/lang/invoke/MethodHandle" ∧ yX4_newest.cls ≠ "java/lang/invoke/VarHandle" ∧ (parseMethodDescriptor yX4_newest.desc).map (fun d => d.parameters.length) = some 2 := by decide +kernel
theorem hd_X4_newest : yX4_newest.cls = "CheckoutDeskModel" ∧ yX4_newest.cls ≠ "java/lang/invoke/MethodHandle" ∧ yX4_newest.cls ≠ "java/lang/invoke/VarHandle" ∧ (parseMethodDescriptor yX4_newest.desc).map (fun d => d.parameters.length) = some 2 := ⟨rfl, hn_X4_newest⟩
abbrev rm_X4_newest : Room := { frames := 4, cells := 0, slots := 0, locals := 84 }
set_option maxHeartbeats 1000000 in
theorem tc_newest (l : Launch) {G : zG} {t : zTau} {w kp lg hr : Int → Int} {ev rd th : Int} {H0 : Heap} (hT : zT G t w kp lg hr ev rd th H0) {a1 a2 : Int} (ha1 : inR a1) (ha2 : inR a2) {n_ : Int} (hI : tInv n_ w) (hn_ : n_ < 2000) : zM l yX4_newest (ws_ yX4_newest cX4_newest 3 (some .int)) rm_X4_newest G (zTw t H0) [.ref t.1, .int (iI a1), .int (iI a2)] H0 (fun r H1 => r = some (.int (iI (qA_newest w a1 a2))) ∧ zT G t w kp lg hr ev rd (qC_newest w a1 a2) H1) (fun _ => False) := by
  refine z_enter (by decide +kernel) (Nat.le_of_ble_eq_true rfl) ?_
  intro p e s m args below meth c ls hx hb hret hml hown hts hlocks htab hnm hK hH hl
  subst hH
  have hAn : ∀ q, s.heap.size ≤ q → zTw t s.heap q := fun _ h => Or.inr h
  have hTA : ∀ q, zTA t q → zTw t s.heap q := fun _ h => Or.inl h
  have hS : va_S (zTw t s.heap) s.heap s.heap [] := va_S.rf
  have hl : lv_has ls 3 [(0, .ref t.1), (1, .int (iI a1)), (2, .int (iI a2))] := hl
  have hrd := hT.2.2.2.2.2.2.2.2.2.2.2
  have hev := hT.2.2.2.2.2.2.2.2.2.2.1
  have hwR := hT.2.2.2.2.2.2.1
  obtain ⟨hD, hV, hL, hB, hVd, hLk, hClk, hDoc, hBr, hVer, hLnk, hNew, hFr⟩ := hI
  refine lv_aload_n hx hb dX4_newest_0 rfl (lv_at hl 0 rfl) ?_
  refine lv_aload_n hx hb dX4_newest_1 rfl (lv_at hl 0 rfl) ?_
  refine lv_iload_n hx hb dX4_newest_2 rfl (lv_at hl 1 rfl) ?_
  refine lv_iload_n hx hb dX4_newest_3 rfl (lv_at hl 2 rfl) ?_
  refine z_callp (vx_runV (As := [.int (iI a1), .int (iI a2)]) (rest := [.ref t.1]) ⟨hx, hb, hml, hown, hts⟩ (tc_isBranch l hT (d := a1) (b := a2) (by first | with_reducible assumption | omega | exact ⟨by omega, by omega⟩ | omega) (by first | with_reducible assumption | omega | exact ⟨by omega, by omega⟩ | omega) (by first | with_reducible assumption | omega | exact ⟨by omega, by omega⟩ | omega) (by first | with_reducible assumption | omega | exact ⟨by omega, by omega⟩ | omega)) (cwV 2 hts (lw_V q2424 q2426 qs18 q49 q2427) rfl rfl rfl hd_X4_isBranch ⟨Nat.le_of_ble_eq_true rfl, Nat.le_of_ble_eq_true rfl⟩) (z_preV hK hS (zN_le hAn hS) hT.1 rfl rfl) rfl rfl hl.1 rfl (lv_room (Nat.le_of_ble_eq_true rfl)) dX4_newest_4 ⟨Nat.le_of_ble_eq_true rfl, Nat.le_of_ble_eq_true rfl⟩) hS (zN_le hAn hS) rfl rfl (fun locs hS => ?_)
  refine z_callm (v := .int (iI (bI (tw_isBranch w a1 a2)))) (P := (fun H1 => zT G t w kp lg hr ev rd (tw_ok3 (tw_isBranch w a1 a2) true true) H1)) (vx_runV (As := [.int (iI (bI (tw_isBranch w a1 a2)))]) (rest := []) ⟨hx, hb, hml, hown, hts⟩ (tc_ok_3 l hT (ba := tw_isBranch w a1 a2)) (cwV 1 hts (lw_V q2384 q2386 qs14 q49 q2387) rfl rfl rfl hd_X4_ok_3 ⟨Nat.le_of_ble_eq_true rfl, Nat.le_of_ble_eq_true rfl⟩) (z_preV hK hS (zTw_le hTA hAn hS) hT.1 rfl rfl) rfl rfl hl.1 rfl (lv_room (Nat.le_of_ble_eq_true rfl)) dX4_newest_7 ⟨Nat.le_of_ble_eq_true rfl, Nat.le_of_ble_eq_true rfl⟩) hS (zTw_le hTA hAn hS) rfl rfl (fun H locs hT hS => ?_)
  refine z_join (pc2 := 23) (nL := 3) (lv := [(0, .ref t.1), (1, .int (iI a1)), (2, .int (iI a2))]) (st2 := [.int (iI (if (tw_isBranch w a1 a2) = true then tw_newestOf w a1 a2 else 0))]) hS (fun J_1 => ?_) (fun locs ls hS hl => ?_)
  · refine z_ifb_eq (b := tw_isBranch w a1 a2) (tgt := 22) hx hb dX4_newest_10 (by decide) (fun c_2 => ?_) (fun c_2 => ?_)
    · refine lv_iconst (v := iI 0) hx hb dX4_newest_22 rfl ?_
      refine z_top (x := 0) (y := if (tw_isBranch w a1 a2) = true then tw_newestOf w a1 a2 else 0) (by simp [bI, c_2]) ?_
      exact J_1 _ ls hS (lv_sub hl [0, 1, 2] rfl)
    · obtain ⟨hd, hbx⟩ := tw_isBranch_iff.mp c_2
      have hb3 := hB _ hd.1 hd.2
      obtain ⟨hho, hgv, hcp, hog, hog2, hcv⟩ := hBr _ _ hd.1 hd.2 hbx.1 hbx.2
      have hgl : inR (w (5 + 32 * a1 + 8 + 8 * a2 + 2) + w 1 - w 0) := ⟨by omega, by omega⟩
      refine lv_aload_n hx hb dX4_newest_13 rfl (lv_at hl 0 rfl) ?_
      refine lv_iload_n hx hb dX4_newest_14 rfl (lv_at hl 1 rfl) ?_
      refine lv_iload_n hx hb dX4_newest_15 rfl (lv_at hl 2 rfl) ?_
      refine z_callp (vx_runV (As := [.int (iI a1), .int (iI a2)]) (rest := []) ⟨hx, hb, hml, hown, hts⟩ (tc_newestOf l hT (d := a1) (b := a2) (by first | with_reducible assumption | omega | exact ⟨by omega, by omega⟩ | omega) (by first | with_reducible assumption | omega | exact ⟨by omega, by omega⟩ | omega) (by first | with_reducible assumption | omega | exact ⟨by omega, by omega⟩ | omega)) (cwV 2 hts (lw_V q2441 q2443 qs22 q49 q2444) rfl rfl rfl hd_X4_newestOf ⟨Nat.le_of_ble_eq_true rfl, Nat.le_of_ble_eq_true rfl⟩) (z_preV hK hS (zN_le hAn hS) hT.1 rfl rfl) rfl rfl hl.1 rfl (lv_room (Nat.le_of_ble_eq_true rfl)) dX4_newest_16 ⟨Nat.le_of_ble_eq_true rfl, Nat.le_of_ble_eq_true rfl⟩) hS (zN_le hAn hS) rfl rfl (fun locs hS => ?_)
      refine lv_goto (tgt := 23) hx hb dX4_newest_19 (by decide) ?_
      refine z_top (x := tw_newestOf w a1 a2) (y := if (tw_isBranch w a1 a2) = true then tw_newestOf w a1 a2 else 0) (by simp [bI, c_2]) ?_
      exact J_1 _ ls hS (lv_sub hl [0, 1, 2] rfl)
  · exact z_iret hx hb hret rfl hlocks hS ⟨rfl, hT⟩ (Nat.le_of_ble_eq_true rfl) (Nat.le_of_ble_eq_true rfl) dX4_newest_23
def qC_originOf (w : Int → Int) (a1 a2 : Int) : Int := tw_ok3 (tw_isBranch w a1 a2) true true
def qA_originOf (w : Int → Int) (a1 a2 : Int) : Int := if (tw_isBranch w a1 a2) = true then w (5 + 32 * a1 + 8 + 8 * a2) else 0
theorem hn_X4_originOf : yX4_originOf.cls ≠ "java/lang/invoke/MethodHandle" ∧ yX4_originOf.cls ≠ "java/lang/invoke/VarHandle" ∧ (parseMethodDescriptor yX4_originOf.desc).map (fun d => d.parameters.length) = some 2 := by decide +kernel
theorem hd_X4_originOf : yX4_originOf.cls = "CheckoutDeskModel" ∧ yX4_originOf.cls ≠ "java/lang/invoke/MethodHandle" ∧ yX4_originOf.cls ≠ "java/lang/invoke/VarHandle" ∧ (parseMethodDescriptor yX4_originOf.desc).map (fun d => d.parameters.length) = some 2 := ⟨rfl, hn_X4_originOf⟩
abbrev rm_X4_originOf : Room := { frames := 4, cells := 0, slots := 0, locals := 81 }
set_option maxHeartbeats 1000000 in
theorem tc_originOf (l : Launch) {G : zG} {t : zTau} {w kp lg hr : Int → Int} {ev rd th : Int} {H0 : Heap} (hT : zT G t w kp lg hr ev rd th H0) {a1 a2 : Int} (ha1 : inR a1) (ha2 : inR a2) {n_ : Int} (hI : tInv n_ w) (hn_ : n_ < 2000) : zM l yX4_originOf (ws_ yX4_originOf cX4_originOf 3 (some .int)) rm_X4_originOf G (zTw t H0) [.ref t.1, .int (iI a1), .int (iI a2)] H0 (fun r H1 => r = some (.int (iI (qA_originOf w a1 a2))) ∧ zT G t w kp lg hr ev rd (qC_originOf w a1 a2) H1) (fun _ => False) := by
  refine z_enter (by decide +kernel) (Nat.le_of_ble_eq_true rfl) ?_
  intro p e s m args below meth c ls hx hb hret hml hown hts hlocks htab hnm hK hH hl
  subst hH
  have hAn : ∀ q, s.heap.size ≤ q → zTw t s.heap q := fun _ h => Or.inr h
  have hTA : ∀ q, zTA t q → zTw t s.heap q := fun _ h => Or.inl h
  have hS : va_S (zTw t s.heap) s.heap s.heap [] := va_S.rf
  have hl : lv_has ls 3 [(0, .ref t.1), (1, .int (iI a1)), (2, .int (iI a2))] := hl
  have hrd := hT.2.2.2.2.2.2.2.2.2.2.2
  have hev := hT.2.2.2.2.2.2.2.2.2.2.1
  have hwR := hT.2.2.2.2.2.2.1
  obtain ⟨hD, hV, hL, hB, hVd, hLk, hClk, hDoc, hBr, hVer, hLnk, hNew, hFr⟩ := hI
  refine lv_aload_n hx hb dX4_originOf_0 rfl (lv_at hl 0 rfl) ?_
  refine lv_aload_n hx hb dX4_originOf_1 rfl (lv_at hl 0 rfl) ?_
  refine lv_iload_n hx hb dX4_originOf_2 rfl (lv_at hl 1 rfl) ?_
  refine lv_iload_n hx hb dX4_originOf_3 rfl (lv_at hl 2 rfl) ?_
  refine z_callp (vx_runV (As := [.int (iI a1), .int (iI a2)]) (rest := [.ref t.1]) ⟨hx, hb, hml, hown, hts⟩ (tc_isBranch l hT (d := a1) (b := a2) (by first | with_reducible assumption | omega | exact ⟨by omega, by omega⟩ | omega) (by first | with_reducible assumption | omega | exact ⟨by omega, by omega⟩ | omega) (by first | with_reducible assumption | omega | exact ⟨by omega, by omega⟩ | omega) (by first | with_reducible assumption | omega | exact ⟨by omega, by omega⟩ | omega)) (cwV 2 hts (lw_V q2424 q2426 qs18 q49 q2427) rfl rfl rfl hd_X4_isBranch ⟨Nat.le_of_ble_eq_true rfl, Nat.le_of_ble_eq_true rfl⟩) (z_preV hK hS (zN_le hAn hS) hT.1 rfl rfl) rfl rfl hl.1 rfl (lv_room (Nat.le_of_ble_eq_true rfl)) dX4_originOf_4 ⟨Nat.le_of_ble_eq_true rfl, Nat.le_of_ble_eq_true rfl⟩) hS (zN_le hAn hS) rfl rfl (fun locs hS => ?_)
  refine z_callm (v := .int (iI (bI (tw_isBranch w a1 a2)))) (P := (fun H1 => zT G t w kp lg hr ev rd (tw_ok3 (tw_isBranch w a1 a2) true true) H1)) (vx_runV (As := [.int (iI (bI (tw_isBranch w a1 a2)))]) (rest := []) ⟨hx, hb, hml, hown, hts⟩ (tc_ok_3 l hT (ba := tw_isBranch w a1 a2)) (cwV 1 hts (lw_V q2384 q2386 qs14 q49 q2387) rfl rfl rfl hd_X4_ok_3 ⟨Nat.le_of_ble_eq_true rfl, Nat.le_of_ble_eq_true rfl⟩) (z_preV hK hS (zTw_le hTA hAn hS) hT.1 rfl rfl) rfl rfl hl.1 rfl (lv_room (Nat.le_of_ble_eq_true rfl)) dX4_originOf_7 ⟨Nat.le_of_ble_eq_true rfl, Nat.le_of_ble_eq_true rfl⟩) hS (zTw_le hTA hAn hS) rfl rfl (fun H locs hT hS => ?_)
  refine z_join (pc2 := 29) (nL := 3) (lv := [(0, .ref t.1), (1, .int (iI a1)), (2, .int (iI a2))]) (st2 := [.int (iI (if (tw_isBranch w a1 a2) = true then w (5 + 32 * a1 + 8 + 8 * a2) else 0))]) hS (fun J_1 => ?_) (fun locs ls hS hl => ?_)
  · refine z_ifb_eq (b := tw_isBranch w a1 a2) (tgt := 28) hx hb dX4_originOf_10 (by decide) (fun c_2 => ?_) (fun c_2 => ?_)
    · refine lv_iconst (v := iI 0) hx hb dX4_originOf_28 rfl ?_
      refine z_top (x := 0) (y := if (tw_isBranch w a1 a2) = true then w (5 + 32 * a1 + 8 + 8 * a2) else 0) (by simp [bI, c_2]) ?_
      exact J_1 _ ls hS (lv_sub hl [0, 1, 2] rfl)
    · obtain ⟨hd, hbx⟩ := tw_isBranch_iff.mp c_2
      have hb3 := hB _ hd.1 hd.2
      obtain ⟨hho, hgv, hcp, hog, hog2, hcv⟩ := hBr _ _ hd.1 hd.2 hbx.1 hbx.2
      have hgl : inR (w (5 + 32 * a1 + 8 + 8 * a2 + 2) + w 1 - w 0) := ⟨by omega, by omega⟩
      refine lv_aload_n hx hb dX4_originOf_13 rfl (lv_at hl 0 rfl) ?_
      refine z_get (k := 0) hx hb hts in_X4 hown hK hT.1 rfl (by decide) q2331 rfl (v := .ref t.2.1) rfl dX4_originOf_14 ?_
      refine lv_iload_n hx hb dX4_originOf_17 rfl (lv_at hl 1 rfl) ?_
      refine lv_iload_n hx hb dX4_originOf_18 rfl (lv_at hl 2 rfl) ?_
      refine z_callp (vx_runS (As := [.int (iI a1), .int (iI a2)]) (rest := [.ref t.2.1]) ⟨hx, hb, hml, hown, hts⟩ (tc_place l (d := a1) (b := a2)) (va_cwS 2 hts (lw_S q2398 q2399 q49 q2400) rfl rfl rfl hn_X4_place ⟨Nat.le_of_ble_eq_true rfl, Nat.le_of_ble_eq_true rfl⟩) (z_preS hK hS (zN_le hAn hS)) rfl rfl hl.1 rfl (lv_room (Nat.le_of_ble_eq_true rfl)) dX4_originOf_19 ⟨Nat.le_of_ble_eq_true rfl, Nat.le_of_ble_eq_true rfl⟩) hS (zN_le hAn hS) rfl rfl (fun locs hS => ?_)
      refine lv_iconst (v := iI 0) hx hb dX4_originOf_22 rfl ?_
      refine z_iadd0 hx hb dX4_originOf_23 ?_
      refine z_ildZ (i := 5 + 32 * a1 + 8 + 8 * a2) (f := w) hx hb hK hT.2.1 ⟨by omega, by omega⟩ (by decide) dX4_originOf_24 ?_
      have r_3 : inR (w (5 + 32 * a1 + 8 + 8 * a2)) := hT.2.2.2.2.2.2.1 (5 + 32 * a1 + 8 + 8 * a2)
      refine lv_goto (tgt := 29) hx hb dX4_originOf_25 (by decide) ?_
      refine z_top (x := w (5 + 32 * a1 + 8 + 8 * a2)) (y := if (tw_isBranch w a1 a2) = true then w (5 + 32 * a1 + 8 + 8 * a2) else 0) (by simp [bI, c_2]) ?_
      exact J_1 _ ls hS (lv_sub hl [0, 1, 2] rfl)
  · exact z_iret hx hb hret rfl hlocks hS ⟨rfl, hT⟩ (Nat.le_of_ble_eq_true rfl) (Nat.le_of_ble_eq_true rfl) dX4_originOf_29
def qC_holder (w : Int → Int) (a1 a2 : Int) : Int := tw_ok3 (tw_isBranch w a1 a2) true true
def qA_holder (w : Int → Int) (a1 a2 : Int) : Int := if (tw_isBranch w a1 a2) = true then tw_holderOf w a1 a2 else 0
theorem hn_X4_holder : yX4_holder.cls ≠ "java/lang/invoke/MethodHandle" ∧ yX4_holder.cls ≠ "java/lang/invoke/VarHandle" ∧ (parseMethodDescriptor yX4_holder.desc).map (fun d => d.parameters.length) = some 2 := by decide +kernel
theorem hd_X4_holder : yX4_holder.cls = "CheckoutDeskModel" ∧ yX4_holder.cls ≠ "java/lang/invoke/MethodHandle" ∧ yX4_holder.cls ≠ "java/lang/invoke/VarHandle" ∧ (parseMethodDescriptor yX4_holder.desc).map (fun d => d.parameters.length) = some 2 := ⟨rfl, hn_X4_holder⟩
abbrev rm_X4_holder : Room := { frames := 4, cells := 0, slots := 0, locals := 81 }
set_option maxHeartbeats 1000000 in
theorem tc_holder (l : Launch) {G : zG} {t : zTau} {w kp lg hr : Int → Int} {ev rd th : Int} {H0 : Heap} (hT : zT G t w kp lg hr ev rd th H0) {a1 a2 : Int} (ha1 : inR a1) (ha2 : inR a2) {n_ : Int} (hI : tInv n_ w) (hn_ : n_ < 2000) : zM l yX4_holder (ws_ yX4_holder cX4_holder 3 (some .int)) rm_X4_holder G (zTw t H0) [.ref t.1, .int (iI a1), .int (iI a2)] H0 (fun r H1 => r = some (.int (iI (qA_holder w a1 a2))) ∧ zT G t w kp lg hr ev rd (qC_holder w a1 a2) H1) (fun _ => False) := by
  refine z_enter (by decide +kernel) (Nat.le_of_ble_eq_true rfl) ?_
  intro p e s m args below meth c ls hx hb hret hml hown hts hlocks htab hnm hK hH hl
  subst hH
  have hAn : ∀ q, s.heap.size ≤ q → zTw t s.heap q := fun _ h => Or.inr h
  have hTA : ∀ q, zTA t q → zTw t s.heap q := fun _ h => Or.inl h
  have hS : va_S (zTw t s.heap) s.heap s.heap [] := va_S.rf
  have hl : lv_has ls 3 [(0, .ref t.1), (1, .int (iI a1)), (2, .int (iI a2))] := hl
  have hrd := hT.2.2.2.2.2.2.2.2.2.2.2
  have hev := hT.2.2.2.2.2.2.2.2.2.2.1
  have hwR := hT.2.2.2.2.2.2.1
  obtain ⟨hD, hV, hL, hB, hVd, hLk, hClk, hDoc, hBr, hVer, hLnk, hNew, hFr⟩ := hI
  refine lv_aload_n hx hb dX4_holder_0 rfl (lv_at hl 0 rfl) ?_
  refine lv_aload_n hx hb dX4_holder_1 rfl (lv_at hl 0 rfl) ?_
  refine lv_iload_n hx hb dX4_holder_2 rfl (lv_at hl 1 rfl) ?_
  refine lv_iload_n hx hb dX4_holder_3 rfl (lv_at hl 2 rfl) ?_
  refine z_callp (vx_runV (As := [.int (iI a1), .int (iI a2)]) (rest := [.ref t.1]) ⟨hx, hb, hml, hown, hts⟩ (tc_isBranch l hT (d := a1) (b := a2) (by first | with_reducible assumption | omega | exact ⟨by omega, by omega⟩ | omega) (by first | with_reducible assumption | omega | exact ⟨by omega, by omega⟩ | omega) (by first | with_reducible assumption | omega | exact ⟨by omega, by omega⟩ | omega) (by first | with_reducible assumption | omega | exact ⟨by omega, by omega⟩ | omega)) (cwV 2 hts (lw_V q2424 q2426 qs18 q49 q2427) rfl rfl rfl hd_X4_isBranch ⟨Nat.le_of_ble_eq_true rfl, Nat.le_of_ble_eq_true rfl⟩) (z_preV hK hS (zN_le hAn hS) hT.1 rfl rfl) rfl rfl hl.1 rfl (lv_room (Nat.le_of_ble_eq_true rfl)) dX4_holder_4 ⟨Nat.le_of_ble_eq_true rfl, Nat.le_of_ble_eq_true rfl⟩) hS (zN_le hAn hS) rfl rfl (fun locs hS => ?_)
  refine z_callm (v := .int (iI (bI (tw_isBranch w a1 a2)))) (P := (fun H1 => zT G t w kp lg hr ev rd (tw_ok3 (tw_isBranch w a1 a2) true true) H1)) (vx_runV (As := [.int (iI (bI (tw_isBranch w a1 a2)))]) (rest := []) ⟨hx, hb, hml, hown, hts⟩ (tc_ok_3 l hT (ba := tw_isBranch w a1 a2)) (cwV 1 hts (lw_V q2384 q2386 qs14 q49 q2387) rfl rfl rfl hd_X4_ok_3 ⟨Nat.le_of_ble_eq_true rfl, Nat.le_of_ble_eq_true rfl⟩) (z_preV hK hS (zTw_le hTA hAn hS) hT.1 rfl rfl) rfl rfl hl.1 rfl (lv_room (Nat.le_of_ble_eq_true rfl)) dX4_holder_7 ⟨Nat.le_of_ble_eq_true rfl, Nat.le_of_ble_eq_true rfl⟩) hS (zTw_le hTA hAn hS) rfl rfl (fun H locs hT hS => ?_)
  refine z_join (pc2 := 23) (nL := 3) (lv := [(0, .ref t.1), (1, .int (iI a1)), (2, .int (iI a2))]) (st2 := [.int (iI (if (tw_isBranch w a1 a2) = true then tw_holderOf w a1 a2 else 0))]) hS (fun J_1 => ?_) (fun locs ls hS hl => ?_)
  · refine z_ifb_eq (b := tw_isBranch w a1 a2) (tgt := 22) hx hb dX4_holder_10 (by decide) (fun c_2 => ?_) (fun c_2 => ?_)
    · refine lv_iconst (v := iI 0) hx hb dX4_holder_22 rfl ?_
      refine z_top (x := 0) (y := if (tw_isBranch w a1 a2) = true then tw_holderOf w a1 a2 else 0) (by simp [bI, c_2]) ?_
      exact J_1 _ ls hS (lv_sub hl [0, 1, 2] rfl)
    · obtain ⟨hd, hbx⟩ := tw_isBranch_iff.mp c_2
      have hb3 := hB _ hd.1 hd.2
      obtain ⟨hho, hgv, hcp, hog, hog2, hcv⟩ := hBr _ _ hd.1 hd.2 hbx.1 hbx.2
      have hgl : inR (w (5 + 32 * a1 + 8 + 8 * a2 + 2) + w 1 - w 0) := ⟨by omega, by omega⟩
      refine lv_aload_n hx hb dX4_holder_13 rfl (lv_at hl 0 rfl) ?_
      refine lv_iload_n hx hb dX4_holder_14 rfl (lv_at hl 1 rfl) ?_
      refine lv_iload_n hx hb dX4_holder_15 rfl (lv_at hl 2 rfl) ?_
      refine z_callp (vx_runV (As := [.int (iI a1), .int (iI a2)]) (rest := []) ⟨hx, hb, hml, hown, hts⟩ (tc_holderOf l hT (d := a1) (b := a2) (by first | with_reducible assumption | omega | exact ⟨by omega, by omega⟩ | omega) (by first | with_reducible assumption | omega | exact ⟨by omega, by omega⟩ | omega)) (cwV 2 hts (lw_V q2461 q2463 qs26 q49 q2464) rfl rfl rfl hd_X4_holderOf ⟨Nat.le_of_ble_eq_true rfl, Nat.le_of_ble_eq_true rfl⟩) (z_preV hK hS (zN_le hAn hS) hT.1 rfl rfl) rfl rfl hl.1 rfl (lv_room (Nat.le_of_ble_eq_true rfl)) dX4_holder_16 ⟨Nat.le_of_ble_eq_true rfl, Nat.le_of_ble_eq_true rfl⟩) hS (zN_le hAn hS) rfl rfl (fun locs hS => ?_)
      refine lv_goto (tgt := 23) hx hb dX4_holder_19 (by decide) ?_
      refine z_top (x := tw_holderOf w a1 a2) (y := if (tw_isBranch w a1 a2) = true then tw_holderOf w a1 a2 else 0) (by simp [bI, c_2]) ?_
      exact J_1 _ ls hS (lv_sub hl [0, 1, 2] rfl)
  · exact z_iret hx hb hret rfl hlocks hS ⟨rfl, hT⟩ (Nat.le_of_ble_eq_true rfl) (Nat.le_of_ble_eq_true rfl) dX4_holder_23
def qC_hoursLeft (w : Int → Int) (a1 a2 : Int) : Int := tw_ok3 (tw_isBranch w a1 a2) true true
def qA_hoursLeft (w : Int → Int) (a1 a2 : Int) : Int := if (tw_isBranch w a1 a2) = true then tw_left w a1 a2 else 0
theorem hn_X4_hoursLeft : yX4_hoursLeft.cls ≠ "java/lang/invoke/MethodHandle" ∧ yX4_hoursLeft.cls ≠ "java/lang/invoke/VarHandle" ∧ (parseMethodDescriptor yX4_hoursLeft.desc).map (fun d => d.parameters.length) = some 2 := by decide +kernel
theorem hd_X4_hoursLeft : yX4_hoursLeft.cls = "CheckoutDeskModel" ∧ yX4_hoursLeft.cls ≠ "java/lang/invoke/MethodHandle" ∧ yX4_hoursLeft.cls ≠ "java/lang/invoke/VarHandle" ∧ (parseMethodDescriptor yX4_hoursLeft.desc).map (fun d => d.parameters.length) = some 2 := ⟨rfl, hn_X4_hoursLeft⟩
abbrev rm_X4_hoursLeft : Room := { frames := 4, cells := 0, slots := 0, locals := 81 }
set_option maxHeartbeats 1000000 in
theorem tc_hoursLeft (l : Launch) {G : zG} {t : zTau} {w kp lg hr : Int → Int} {ev rd th : Int} {H0 : Heap} (hT : zT G t w kp lg hr ev rd th H0) {a1 a2 : Int} (ha1 : inR a1) (ha2 : inR a2) {n_ : Int} (hI : tInv n_ w) (hn_ : n_ < 2000) : zM l yX4_hoursLeft (ws_ yX4_hoursLeft cX4_hoursLeft 3 (some .int)) rm_X4_hoursLeft G (zTw t H0) [.ref t.1, .int (iI a1), .int (iI a2)] H0 (fun r H1 => r = some (.int (iI (qA_hoursLeft w a1 a2))) ∧ zT G t w kp lg hr ev rd (qC_hoursLeft w a1 a2) H1) (fun _ => False) := by
  refine z_enter (by decide +kernel) (Nat.le_of_ble_eq_true rfl) ?_
  intro p e s m args below meth c ls hx hb hret hml hown hts hlocks htab hnm hK hH hl
  subst hH
  have hAn : ∀ q, s.heap.size ≤ q → zTw t s.heap q := fun _ h => Or.inr h
  have hTA : ∀ q, zTA t q → zTw t s.heap q := fun _ h => Or.inl h
  have hS : va_S (zTw t s.heap) s.heap s.heap [] := va_S.rf
  have hl : lv_has ls 3 [(0, .ref t.1), (1, .int (iI a1)), (2, .int (iI a2))] := hl
  have hrd := hT.2.2.2.2.2.2.2.2.2.2.2
  have hev := hT.2.2.2.2.2.2.2.2.2.2.1
  have hwR := hT.2.2.2.2.2.2.1
  obtain ⟨hD, hV, hL, hB, hVd, hLk, hClk, hDoc, hBr, hVer, hLnk, hNew, hFr⟩ := hI
  refine lv_aload_n hx hb dX4_hoursLeft_0 rfl (lv_at hl 0 rfl) ?_
  refine lv_aload_n hx hb dX4_hoursLeft_1 rfl (lv_at hl 0 rfl) ?_
  refine lv_iload_n hx hb dX4_hoursLeft_2 rfl (lv_at hl 1 rfl) ?_
  refine lv_iload_n hx hb dX4_hoursLeft_3 rfl (lv_at hl 2 rfl) ?_
  refine z_callp (vx_runV (As := [.int (iI a1), .int (iI a2)]) (rest := [.ref t.1]) ⟨hx, hb, hml, hown, hts⟩ (tc_isBranch l hT (d := a1) (b := a2) (by first | with_reducible assumption | omega | exact ⟨by omega, by omega⟩ | omega) (by first | with_reducible assumption | omega | exact ⟨by omega, by omega⟩ | omega) (by first | with_reducible assumption | omega | exact ⟨by omega, by omega⟩ | omega) (by first | with_reducible assumption | omega | exact ⟨by omega, by omega⟩ | omega)) (cwV 2 hts (lw_V q2424 q2426 qs18 q49 q2427) rfl rfl rfl hd_X4_isBranch ⟨Nat.le_of_ble_eq_true rfl, Nat.le_of_ble_eq_true rfl⟩) (z_preV hK hS (zN_le hAn hS) hT.1 rfl rfl) rfl rfl hl.1 rfl (lv_room (Nat.le_of_ble_eq_true rfl)) dX4_hoursLeft_4 ⟨Nat.le_of_ble_eq_true rfl, Nat.le_of_ble_eq_true rfl⟩) hS (zN_le hAn hS) rfl rfl (fun locs hS => ?_)
  refine z_callm (v := .int (iI (bI (tw_isBranch w a1 a2)))) (P := (fun H1 => zT G t w kp lg hr ev rd (tw_ok3 (tw_isBranch w a1 a2) true true) H1)) (vx_runV (As := [.int (iI (bI (tw_isBranch w a1 a2)))]) (rest := []) ⟨hx, hb, hml, hown, hts⟩ (tc_ok_3 l hT (ba := tw_isBranch w a1 a2)) (cwV 1 hts (lw_V q2384 q2386 qs14 q49 q2387) rfl rfl rfl hd_X4_ok_3 ⟨Nat.le_of_ble_eq_true rfl, Nat.le_of_ble_eq_true rfl⟩) (z_preV hK hS (zTw_le hTA hAn hS) hT.1 rfl rfl) rfl rfl hl.1 rfl (lv_room (Nat.le_of_ble_eq_true rfl)) dX4_hoursLeft_7 ⟨Nat.le_of_ble_eq_true rfl, Nat.le_of_ble_eq_true rfl⟩) hS (zTw_le hTA hAn hS) rfl rfl (fun H locs hT hS => ?_)
  refine z_join (pc2 := 23) (nL := 3) (lv := [(0, .ref t.1), (1, .int (iI a1)), (2, .int (iI a2))]) (st2 := [.int (iI (if (tw_isBranch w a1 a2) = true then tw_left w a1 a2 else 0))]) hS (fun J_1 => ?_) (fun locs ls hS hl => ?_)
  · refine z_ifb_eq (b := tw_isBranch w a1 a2) (tgt := 22) hx hb dX4_hoursLeft_10 (by decide) (fun c_2 => ?_) (fun c_2 => ?_)
    · refine lv_iconst (v := iI 0) hx hb dX4_hoursLeft_22 rfl ?_
      refine z_top (x := 0) (y := if (tw_isBranch w a1 a2) = true then tw_left w a1 a2 else 0) (by simp [bI, c_2]) ?_
      exact J_1 _ ls hS (lv_sub hl [0, 1, 2] rfl)
    · obtain ⟨hd, hbx⟩ := tw_isBranch_iff.mp c_2
      have hb3 := hB _ hd.1 hd.2
      obtain ⟨hho, hgv, hcp, hog, hog2, hcv⟩ := hBr _ _ hd.1 hd.2 hbx.1 hbx.2
      have hgl : inR (w (5 + 32 * a1 + 8 + 8 * a2 + 2) + w 1 - w 0) := ⟨by omega, by omega⟩
      refine lv_aload_n hx hb dX4_hoursLeft_13 rfl (lv_at hl 0 rfl) ?_
      refine lv_iload_n hx hb dX4_hoursLeft_14 rfl (lv_at hl 1 rfl) ?_
      refine lv_iload_n hx hb dX4_hoursLeft_15 rfl (lv_at hl 2 rfl) ?_
      refine z_callp (vx_runV (As := [.int (iI a1), .int (iI a2)]) (rest := []) ⟨hx, hb, hml, hown, hts⟩ (tc_left l hT (d := a1) (b := a2) (by first | with_reducible assumption | omega | exact ⟨by omega, by omega⟩ | omega) (by first | with_reducible assumption | omega | exact ⟨by omega, by omega⟩ | omega) (by first | with_reducible assumption | omega | exact ⟨by omega, by omega⟩ | omega)) (cwV 2 hts (lw_V q2436 q2438 qs21 q49 q2439) rfl rfl rfl hd_X4_left ⟨Nat.le_of_ble_eq_true rfl, Nat.le_of_ble_eq_true rfl⟩) (z_preV hK hS (zN_le hAn hS) hT.1 rfl rfl) rfl rfl hl.1 rfl (lv_room (Nat.le_of_ble_eq_true rfl)) dX4_hoursLeft_16 ⟨Nat.le_of_ble_eq_true rfl, Nat.le_of_ble_eq_true rfl⟩) hS (zN_le hAn hS) rfl rfl (fun locs hS => ?_)
      refine lv_goto (tgt := 23) hx hb dX4_hoursLeft_19 (by decide) ?_
      refine z_top (x := tw_left w a1 a2) (y := if (tw_isBranch w a1 a2) = true then tw_left w a1 a2 else 0) (by simp [bI, c_2]) ?_
      exact J_1 _ ls hS (lv_sub hl [0, 1, 2] rfl)
  · exact z_iret hx hb hret rfl hlocks hS ⟨rfl, hT⟩ (Nat.le_of_ble_eq_true rfl) (Nat.le_of_ble_eq_true rfl) dX4_hoursLeft_23
def qC_maySee (w : Int → Int) (a1 a2 : Int) : Int := tw_ok3 ((tw_isPerson a1) && (tw_isVersion w a2)) true true
def qA_maySee (w : Int → Int) (a1 a2 : Int) : Bool := ((tw_isPerson a1) && (tw_isVersion w a2)) && (tw_sees w a1 a2)
theorem hn_X4_maySee : yX4_maySee.cls ≠ "java/lang/invoke/MethodHandle" ∧ yX4_maySee.cls ≠ "java/lang/invoke/VarHandle" ∧ (parseMethodDescriptor yX4_maySee.desc).map (fun d => d.parameters.length) = some 2 := by decide +kernel
theorem hd_X4_maySee : yX4_maySee.cls = "CheckoutDeskModel" ∧ yX4_maySee.cls ≠ "java/lang/invoke/MethodHandle" ∧ yX4_maySee.cls ≠ "java/lang/invoke/VarHandle" ∧ (parseMethodDescriptor yX4_maySee.desc).map (fun d => d.parameters.length) = some 2 := ⟨rfl, hn_X4_maySee⟩
abbrev rm_X4_maySee : Room := { frames := 4, cells := 0, slots := 0, locals := 81 }
set_option maxHeartbeats 1000000 in
theorem tc_maySee (l : Launch) {G : zG} {t : zTau} {w kp lg hr : Int → Int} {ev rd th : Int} {H0 : Heap} (hT : zT G t w kp lg hr ev rd th H0) {a1 a2 : Int} (ha1 : inR a1) (ha2 : inR a2) {n_ : Int} (hI : tInv n_ w) (hn_ : n_ < 2000) : zM l yX4_maySee (ws_ yX4_maySee cX4_maySee 3 (some .boolean)) rm_X4_maySee G (zTw t H0) [.ref t.1, .int (iI a1), .int (iI a2)] H0 (fun r H1 => r = some (.int (iI (bI (qA_maySee w a1 a2)))) ∧ zT G t w kp lg hr ev rd (qC_maySee w a1 a2) H1) (fun _ => False) := by
  refine z_enter (by decide +kernel) (Nat.le_of_ble_eq_true rfl) ?_
  intro p e s m args below meth c ls hx hb hret hml hown hts hlocks htab hnm hK hH hl
  subst hH
  have hAn : ∀ q, s.heap.size ≤ q → zTw t s.heap q := fun _ h => Or.inr h
  have hTA : ∀ q, zTA t q → zTw t s.heap q := fun _ h => Or.inl h
  have hS : va_S (zTw t s.heap) s.heap s.heap [] := va_S.rf
  have hl : lv_has ls 3 [(0, .ref t.1), (1, .int (iI a1)), (2, .int (iI a2))] := hl
  have hrd := hT.2.2.2.2.2.2.2.2.2.2.2
  have hev := hT.2.2.2.2.2.2.2.2.2.2.1
  have hwR := hT.2.2.2.2.2.2.1
  obtain ⟨hD, hV, hL, hB, hVd, hLk, hClk, hDoc, hBr, hVer, hLnk, hNew, hFr⟩ := hI
  refine lv_aload_n hx hb dX4_maySee_0 rfl (lv_at hl 0 rfl) ?_
  refine lv_iload_n hx hb dX4_maySee_1 rfl (lv_at hl 1 rfl) ?_
  refine z_callp (vx_runS (As := [.int (iI a1)]) (rest := [.ref t.1]) ⟨hx, hb, hml, hown, hts⟩ (tc_isPerson l (p_ := a1) (by first | with_reducible assumption | omega | exact ⟨by omega, by omega⟩ | omega)) (va_cwS 1 hts (lw_S q2392 q2393 q49 q2394) rfl rfl rfl hn_X4_isPerson ⟨Nat.le_of_ble_eq_true rfl, Nat.le_of_ble_eq_true rfl⟩) (z_preS hK hS (zN_le hAn hS)) rfl rfl hl.1 rfl (lv_room (Nat.le_of_ble_eq_true rfl)) dX4_maySee_2 ⟨Nat.le_of_ble_eq_true rfl, Nat.le_of_ble_eq_true rfl⟩) hS (zN_le hAn hS) rfl rfl (fun locs hS => ?_)
  refine z_join (pc2 := 21) (nL := 3) (lv := [(0, .ref t.1), (1, .int (iI a1)), (2, .int (iI a2))]) (st2 := [.int (iI (bI ((tw_isPerson a1) && (tw_isVersion w a2)))), .ref t.1]) hS (fun J_1 => ?_) (fun locs ls hS hl => ?_)
  · refine z_ifb_eq (b := tw_isPerson a1) (tgt := 20) hx hb dX4_maySee_5 (by decide) (fun c_2 => ?_) (fun c_2 => ?_)
    · refine lv_iconst (v := iI 0) hx hb dX4_maySee_20 rfl ?_
      refine z_top (x := 0) (y := bI ((tw_isPerson a1) && (tw_isVersion w a2))) (by simp [bI, c_2]) ?_
      exact J_1 _ ls hS (lv_sub hl [0, 1, 2] rfl)
    · refine lv_aload_n hx hb dX4_maySee_8 rfl (lv_at hl 0 rfl) ?_
      refine lv_iload_n hx hb dX4_maySee_9 rfl (lv_at hl 2 rfl) ?_
      refine z_callp (vx_runV (As := [.int (iI a2)]) (rest := [.ref t.1]) ⟨hx, hb, hml, hown, hts⟩ (tc_isVersion l hT (v := a2) (by first | with_reducible assumption | omega | exact ⟨by omega, by omega⟩ | omega) (by first | with_reducible assumption | omega | exact ⟨by omega, by omega⟩ | omega)) (cwV 1 hts (lw_V q2501 q2503 qs30 q49 q2504) rfl rfl rfl hd_X4_isVersion ⟨Nat.le_of_ble_eq_true rfl, Nat.le_of_ble_eq_true rfl⟩) (z_preV hK hS (zN_le hAn hS) hT.1 rfl rfl) rfl rfl hl.1 rfl (lv_room (Nat.le_of_ble_eq_true rfl)) dX4_maySee_10 ⟨Nat.le_of_ble_eq_true rfl, Nat.le_of_ble_eq_true rfl⟩) hS (zN_le hAn hS) rfl rfl (fun locs hS => ?_)
      refine z_ifb_eq (b := tw_isVersion w a2) (tgt := 20) hx hb dX4_maySee_13 (by decide) (fun c_3 => ?_) (fun c_3 => ?_)
      · refine lv_iconst (v := iI 0) hx hb dX4_maySee_20 rfl ?_
        refine z_top (x := 0) (y := bI ((tw_isPerson a1) && (tw_isVersion w a2))) (by simp [bI, c_2, c_3]) ?_
        exact J_1 _ ls hS (lv_sub hl [0, 1, 2] rfl)
      · refine lv_iconst (v := iI 1) hx hb dX4_maySee_16 rfl ?_
        refine lv_goto (tgt := 21) hx hb dX4_maySee_17 (by decide) ?_
        refine z_top (x := 1) (y := bI ((tw_isPerson a1) && (tw_isVersion w a2))) (by simp [bI, c_2, c_3]) ?_
        exact J_1 _ ls hS (lv_sub hl [0, 1, 2] rfl)
  · refine z_callm (v := .int (iI (bI ((tw_isPerson a1) && (tw_isVersion w a2))))) (P := (fun H1 => zT G t w kp lg hr ev rd (tw_ok3 ((tw_isPerson a1) && (tw_isVersion w a2)) true true) H1)) (vx_runV (As := [.int (iI (bI ((tw_isPerson a1) && (tw_isVersion w a2))))]) (rest := []) ⟨hx, hb, hml, hown, hts⟩ (tc_ok_3 l hT (ba := (tw_isPerson a1) && (tw_isVersion w a2))) (cwV 1 hts (lw_V q2384 q2386 qs14 q49 q2387) rfl rfl rfl hd_X4_ok_3 ⟨Nat.le_of_ble_eq_true rfl, Nat.le_of_ble_eq_true rfl⟩) (z_preV hK hS (zTw_le hTA hAn hS) hT.1 rfl rfl) rfl rfl hl.1 rfl (lv_room (Nat.le_of_ble_eq_true rfl)) dX4_maySee_21 ⟨Nat.le_of_ble_eq_true rfl, Nat.le_of_ble_eq_true rfl⟩) hS (zTw_le hTA hAn hS) rfl rfl (fun H locs hT hS => ?_)
    refine z_join (pc2 := 41) (nL := 3) (lv := [(0, .ref t.1), (1, .int (iI a1)), (2, .int (iI a2))]) (st2 := [.int (iI (bI (((tw_isPerson a1) && (tw_isVersion w a2)) && (tw_sees w a1 a2))))]) hS (fun J_4 => ?_) (fun locs ls hS hl => ?_)
    · refine z_ifb_eq (b := (tw_isPerson a1) && (tw_isVersion w a2)) (tgt := 40) hx hb dX4_maySee_24 (by decide) (fun c_5 => ?_) (fun c_5 => ?_)
      · refine lv_iconst (v := iI 0) hx hb dX4_maySee_40 rfl ?_
        refine z_top (x := 0) (y := bI (((tw_isPerson a1) && (tw_isVersion w a2)) && (tw_sees w a1 a2))) (by simp [bI, c_5]) ?_
        exact J_4 _ ls hS (lv_sub hl [0, 1, 2] rfl)
      · obtain ⟨c1_, c2_⟩ := Bool.and_eq_true_iff.mp c_5
        have hp := tw_isPerson_iff.mp c1_
        have hvx := tw_isVersion_iff.mp c2_
        have hvd := hVd _ hvx.1.1 hvx.1.2
        refine lv_aload_n hx hb dX4_maySee_27 rfl (lv_at hl 0 rfl) ?_
        refine lv_iload_n hx hb dX4_maySee_28 rfl (lv_at hl 1 rfl) ?_
        refine lv_iload_n hx hb dX4_maySee_29 rfl (lv_at hl 2 rfl) ?_
        refine z_callp (vx_runV (As := [.int (iI a1), .int (iI a2)]) (rest := []) ⟨hx, hb, hml, hown, hts⟩ (tc_sees l hT (p_ := a1) (v := a2) (by first | with_reducible assumption | omega | exact ⟨by omega, by omega⟩ | omega) (by first | with_reducible assumption | omega | exact ⟨by omega, by omega⟩ | omega) (by first | with_reducible assumption | omega | exact ⟨by omega, by omega⟩ | omega)) (cwV 2 hts (lw_V q2513 q2515 qs31 q49 q2516) rfl rfl rfl hd_X4_sees ⟨Nat.le_of_ble_eq_true rfl, Nat.le_of_ble_eq_true rfl⟩) (z_preV hK hS (zN_le hAn hS) hT.1 rfl rfl) rfl rfl hl.1 rfl (lv_room (Nat.le_of_ble_eq_true rfl)) dX4_maySee_30 ⟨Nat.le_of_ble_eq_true rfl, Nat.le_of_ble_eq_true rfl⟩) hS (zN_le hAn hS) rfl rfl (fun locs hS => ?_)
        refine z_ifb_eq (b := tw_sees w a1 a2) (tgt := 40) hx hb dX4_maySee_33 (by decide) (fun c_6 => ?_) (fun c_6 => ?_)
        · refine lv_iconst (v := iI 0) hx hb dX4_maySee_40 rfl ?_
          refine z_top (x := 0) (y := bI (((tw_isPerson a1) && (tw_isVersion w a2)) && (tw_sees w a1 a2))) (by simp [bI, c_5, c_6]) ?_
          exact J_4 _ ls hS (lv_sub hl [0, 1, 2] rfl)
        · refine lv_iconst (v := iI 1) hx hb dX4_maySee_36 rfl ?_
          refine lv_goto (tgt := 41) hx hb dX4_maySee_37 (by decide) ?_
          refine z_top (x := 1) (y := bI (((tw_isPerson a1) && (tw_isVersion w a2)) && (tw_sees w a1 a2))) (by simp [bI, c_5, c_6]) ?_
          exact J_4 _ ls hS (lv_sub hl [0, 1, 2] rfl)
    · exact z_iret hx hb hret (z_nar _) hlocks hS ⟨rfl, hT⟩ (Nat.le_of_ble_eq_true rfl) (Nat.le_of_ble_eq_true rfl) dX4_maySee_41
theorem tw_opens_inR {w : Int → Int} {k p : Int} (h : tV w) (hk : 0 ≤ k ∧ k < w 4) (hL : tLk w) : inR (tw_opens w k p) := by
  have := tw_opens_R (p := p) h hk hL
  exact ⟨by omega, by omega⟩
def tw_oo (w : Int → Int) (a1 a2 : Int) : Int := if (tw_isLink w a1 && tw_isPerson a2) = true then tw_opens w a1 a2 else -1
theorem tw_oo_R {w : Int → Int} {a1 a2 : Int} (hV : tV w) (hLk : tLk w) : inR (tw_oo w a1 a2) := by
  unfold tw_oo
  split
  · rename_i h
    obtain ⟨c1, c2⟩ := Bool.and_eq_true_iff.mp h
    have := tw_opens_R (p := a2) hV (tw_isLink_iff.mp c1) hLk
    exact ⟨by omega, by omega⟩
  · decide
def qC_open (w : Int → Int) (a1 a2 : Int) : Int := tw_ok3 ((tw_isLink w a1) && (tw_isPerson a2)) (!(decide (tw_oo w a1 a2 = (-1)))) true
def qA_open (w : Int → Int) (a1 a2 : Int) : Int := if (((tw_isLink w a1) && (tw_isPerson a2)) && (!(decide (tw_oo w a1 a2 = (-1))))) = true then tw_oo w a1 a2 else 0
theorem hn_X4_open : yX4_open.cls ≠ "java/lang/invoke/MethodHandle" ∧ yX4_open.cls ≠ "java/lang/invoke/VarHandle" ∧ (parseMethodDescriptor yX4_open.desc).map (fun d => d.parameters.length) = some 2 := by decide +kernel
theorem hd_X4_open : yX4_open.cls = "CheckoutDeskModel" ∧ yX4_open.cls ≠ "java/lang/invoke/MethodHandle" ∧ yX4_open.cls ≠ "java/lang/invoke/VarHandle" ∧ (parseMethodDescriptor yX4_open.desc).map (fun d => d.parameters.length) = some 2 := ⟨rfl, hn_X4_open⟩
abbrev rm_X4_open : Room := { frames := 5, cells := 0, slots := 0, locals := 108 }
set_option maxHeartbeats 1000000 in
theorem tc_open (l : Launch) {G : zG} {t : zTau} {w kp lg hr : Int → Int} {ev rd th : Int} {H0 : Heap} (hT : zT G t w kp lg hr ev rd th H0) {a1 a2 : Int} (ha1 : inR a1) (ha2 : inR a2) {n_ : Int} (hI : tInv n_ w) (hn_ : n_ < 2000) : zM l yX4_open (ws_ yX4_open cX4_open 5 (some .int)) rm_X4_open G (zTw t H0) [.ref t.1, .int (iI a1), .int (iI a2)] H0 (fun r H1 => r = some (.int (iI (qA_open w a1 a2))) ∧ zT G t w kp lg hr ev rd (qC_open w a1 a2) H1) (fun _ => False) := by
  refine z_enter (by decide +kernel) (Nat.le_of_ble_eq_true rfl) ?_
  intro p e s m args below meth c ls hx hb hret hml hown hts hlocks htab hnm hK hH hl
  subst hH
  have hAn : ∀ q, s.heap.size ≤ q → zTw t s.heap q := fun _ h => Or.inr h
  have hTA : ∀ q, zTA t q → zTw t s.heap q := fun _ h => Or.inl h
  have hS : va_S (zTw t s.heap) s.heap s.heap [] := va_S.rf
  have hl : lv_has ls 5 [(0, .ref t.1), (1, .int (iI a1)), (2, .int (iI a2))] := hl
  have hrd := hT.2.2.2.2.2.2.2.2.2.2.2
  have hev := hT.2.2.2.2.2.2.2.2.2.2.1
  have hwR := hT.2.2.2.2.2.2.1
  obtain ⟨hD, hV, hL, hB, hVd, hLk, hClk, hDoc, hBr, hVer, hLnk, hNew, hFr⟩ := hI
  refine lv_aload_n hx hb dX4_open_0 rfl (lv_at hl 0 rfl) ?_
  refine lv_iload_n hx hb dX4_open_1 rfl (lv_at hl 1 rfl) ?_
  refine z_callp (vx_runV (As := [.int (iI a1)]) (rest := []) ⟨hx, hb, hml, hown, hts⟩ (tc_isLink l hT (k := a1) (by first | with_reducible assumption | omega | exact ⟨by omega, by omega⟩ | omega) (by first | with_reducible assumption | omega | exact ⟨by omega, by omega⟩ | omega)) (cwV 1 hts (lw_V q2529 q2531 qs33 q49 q2532) rfl rfl rfl hd_X4_isLink ⟨Nat.le_of_ble_eq_true rfl, Nat.le_of_ble_eq_true rfl⟩) (z_preV hK hS (zN_le hAn hS) hT.1 rfl rfl) rfl rfl hl.1 rfl (lv_room (Nat.le_of_ble_eq_true rfl)) dX4_open_2 ⟨Nat.le_of_ble_eq_true rfl, Nat.le_of_ble_eq_true rfl⟩) hS (zN_le hAn hS) rfl rfl (fun locs hS => ?_)
  refine z_join (pc2 := 20) (nL := 5) (lv := [(0, .ref t.1), (1, .int (iI a1)), (2, .int (iI a2))]) (st2 := [.int (iI (bI ((tw_isLink w a1) && (tw_isPerson a2))))]) hS (fun J_1 => ?_) (fun locs ls hS hl => ?_)
  · refine z_ifb_eq (b := tw_isLink w a1) (tgt := 19) hx hb dX4_open_5 (by decide) (fun c_2 => ?_) (fun c_2 => ?_)
    · refine lv_iconst (v := iI 0) hx hb dX4_open_19 rfl ?_
      refine z_top (x := 0) (y := bI ((tw_isLink w a1) && (tw_isPerson a2))) (by simp [bI, c_2]) ?_
      exact J_1 _ ls hS (lv_sub hl [0, 1, 2] rfl)
    · refine lv_iload_n hx hb dX4_open_8 rfl (lv_at hl 2 rfl) ?_
      refine z_callp (vx_runS (As := [.int (iI a2)]) (rest := []) ⟨hx, hb, hml, hown, hts⟩ (tc_isPerson l (p_ := a2) (by first | with_reducible assumption | omega | exact ⟨by omega, by omega⟩ | omega)) (va_cwS 1 hts (lw_S q2392 q2393 q49 q2394) rfl rfl rfl hn_X4_isPerson ⟨Nat.le_of_ble_eq_true rfl, Nat.le_of_ble_eq_true rfl⟩) (z_preS hK hS (zN_le hAn hS)) rfl rfl hl.1 rfl (lv_room (Nat.le_of_ble_eq_true rfl)) dX4_open_9 ⟨Nat.le_of_ble_eq_true rfl, Nat.le_of_ble_eq_true rfl⟩) hS (zN_le hAn hS) rfl rfl (fun locs hS => ?_)
      refine z_ifb_eq (b := tw_isPerson a2) (tgt := 19) hx hb dX4_open_12 (by decide) (fun c_3 => ?_) (fun c_3 => ?_)
      · refine lv_iconst (v := iI 0) hx hb dX4_open_19 rfl ?_
        refine z_top (x := 0) (y := bI ((tw_isLink w a1) && (tw_isPerson a2))) (by simp [bI, c_2, c_3]) ?_
        exact J_1 _ ls hS (lv_sub hl [0, 1, 2] rfl)
      · refine lv_iconst (v := iI 1) hx hb dX4_open_15 rfl ?_
        refine lv_goto (tgt := 20) hx hb dX4_open_16 (by decide) ?_
        refine z_top (x := 1) (y := bI ((tw_isLink w a1) && (tw_isPerson a2))) (by simp [bI, c_2, c_3]) ?_
        exact J_1 _ ls hS (lv_sub hl [0, 1, 2] rfl)
  · refine lv_istore_n (lv' := [(3, .int (iI (bI ((tw_isLink w a1) && (tw_isPerson a2))))), (0, .ref t.1), (1, .int (iI a1)), (2, .int (iI a2))]) hx hb dX4_open_20 rfl hl (by decide) rfl (fun ls hl => ?_)
    refine lv_iload_n hx hb dX4_open_21 rfl (lv_at hl 0 rfl) ?_
    refine z_join (pc2 := 35) (nL := 5) (lv := [(3, .int (iI (bI ((tw_isLink w a1) && (tw_isPerson a2))))), (0, .ref t.1), (1, .int (iI a1)), (2, .int (iI a2))]) (st2 := [.int (iI (tw_oo w a1 a2))]) hS (fun J_4 => ?_) (fun locs ls hS hl => ?_)
    · refine z_ifb_eq (b := (tw_isLink w a1) && (tw_isPerson a2)) (tgt := 34) hx hb dX4_open_22 (by decide) (fun c_5 => ?_) (fun c_5 => ?_)
      · refine lv_iconst (v := iI (-1)) hx hb dX4_open_34 rfl ?_
        refine z_top (x := (-1)) (y := tw_oo w a1 a2) (by simp [tw_oo, c_5]) ?_
        exact J_4 _ ls hS (lv_sub hl [0, 1, 2, 3] rfl)
      · obtain ⟨c1_, c2_⟩ := Bool.and_eq_true_iff.mp c_5
        have hk := tw_isLink_iff.mp c1_
        have hp := tw_isPerson_iff.mp c2_
        have hop := tw_opens_R (p := a2) hV hk hLk
        refine lv_aload_n hx hb dX4_open_25 rfl (lv_at hl 1 rfl) ?_
        refine lv_iload_n hx hb dX4_open_26 rfl (lv_at hl 2 rfl) ?_
        refine lv_iload_n hx hb dX4_open_27 rfl (lv_at hl 3 rfl) ?_
        refine z_callp (vx_runV (As := [.int (iI a1), .int (iI a2)]) (rest := []) ⟨hx, hb, hml, hown, hts⟩ (tc_opens l hT (k := a1) (p_ := a2) (by first | with_reducible assumption | omega | exact ⟨by omega, by omega⟩ | omega) (by first | with_reducible assumption | omega | exact ⟨by omega, by omega⟩ | omega) (by first | with_reducible assumption | omega | exact ⟨by omega, by omega⟩ | omega) (by first | with_reducible assumption | omega | exact ⟨by omega, by omega⟩ | omega) (by first | with_reducible assumption | omega | exact ⟨by omega, by omega⟩ | omega) (by first | with_reducible assumption | omega | exact ⟨by omega, by omega⟩ | omega) (by first | with_reducible assumption | omega | exact ⟨by omega, by omega⟩ | omega)) (cwV 2 hts (lw_V q2583 q2585 qs34 q49 q2586) rfl rfl rfl hd_X4_opens ⟨Nat.le_of_ble_eq_true rfl, Nat.le_of_ble_eq_true rfl⟩) (z_preV hK hS (zN_le hAn hS) hT.1 rfl rfl) rfl rfl hl.1 rfl (lv_room (Nat.le_of_ble_eq_true rfl)) dX4_open_28 ⟨Nat.le_of_ble_eq_true rfl, Nat.le_of_ble_eq_true rfl⟩) hS (zN_le hAn hS) rfl rfl (fun locs hS => ?_)
        refine lv_goto (tgt := 35) hx hb dX4_open_31 (by decide) ?_
        refine z_top (x := tw_opens w a1 a2) (y := tw_oo w a1 a2) (by simp [tw_oo, c_5]) ?_
        exact J_4 _ ls hS (lv_sub hl [0, 1, 2, 3] rfl)
    · refine lv_istore (lv' := [(4, .int (iI (tw_oo w a1 a2))), (3, .int (iI (bI ((tw_isLink w a1) && (tw_isPerson a2))))), (0, .ref t.1), (1, .int (iI a1)), (2, .int (iI a2))]) hx hb dX4_open_35 hl (by decide) rfl (fun ls hl => ?_)
      refine lv_aload_n hx hb dX4_open_37 rfl (lv_at hl 2 rfl) ?_
      refine lv_iload_n hx hb dX4_open_38 rfl (lv_at hl 1 rfl) ?_
      refine lv_iload hx hb dX4_open_39 (lv_at hl 0 rfl) ?_
      refine lv_iconst (v := iI (-1)) hx hb dX4_open_41 rfl ?_
      refine z_join (pc2 := 50) (nL := 5) (lv := [(4, .int (iI (tw_oo w a1 a2))), (3, .int (iI (bI ((tw_isLink w a1) && (tw_isPerson a2))))), (0, .ref t.1), (1, .int (iI a1)), (2, .int (iI a2))]) (st2 := [.int (iI (bI (!(decide (tw_oo w a1 a2 = (-1)))))), .int (iI (bI ((tw_isLink w a1) && (tw_isPerson a2)))), .ref t.1]) hS (fun J_6 => ?_) (fun locs ls hS hl => ?_)
      · refine z_icmp_eq (x := tw_oo w a1 a2) (y := (-1)) (tgt := 49) hx hb (tw_oo_R hV hLk) (by decide) dX4_open_42 (by decide) (fun c_7 => ?_) (fun c_7 => ?_)
        · refine lv_iconst (v := iI 0) hx hb dX4_open_49 rfl ?_
          refine z_top (x := 0) (y := bI (!(decide (tw_oo w a1 a2 = (-1))))) (by simp [bI, c_7]) ?_
          exact J_6 _ ls hS (lv_sub hl [0, 1, 2, 3, 4] rfl)
        · refine lv_iconst (v := iI 1) hx hb dX4_open_45 rfl ?_
          refine lv_goto (tgt := 50) hx hb dX4_open_46 (by decide) ?_
          refine z_top (x := 1) (y := bI (!(decide (tw_oo w a1 a2 = (-1))))) (by simp [bI, c_7]) ?_
          exact J_6 _ ls hS (lv_sub hl [0, 1, 2, 3, 4] rfl)
      · refine z_callm (v := .int (iI (bI (((tw_isLink w a1) && (tw_isPerson a2)) && (!(decide (tw_oo w a1 a2 = (-1)))))))) (P := (fun H1 => zT G t w kp lg hr ev rd (tw_ok3 ((tw_isLink w a1) && (tw_isPerson a2)) (!(decide (tw_oo w a1 a2 = (-1)))) true) H1)) (vx_runV (As := [.int (iI (bI ((tw_isLink w a1) && (tw_isPerson a2)))), .int (iI (bI (!(decide (tw_oo w a1 a2 = (-1))))))]) (rest := []) ⟨hx, hb, hml, hown, hts⟩ (tc_ok l hT (ba := (tw_isLink w a1) && (tw_isPerson a2)) (bb := !(decide (tw_oo w a1 a2 = (-1))))) (cwV 2 hts (lw_V q2368 q2370 qs11 q49 q2371) rfl rfl rfl hd_X4_ok ⟨Nat.le_of_ble_eq_true rfl, Nat.le_of_ble_eq_true rfl⟩) (z_preV hK hS (zTw_le hTA hAn hS) hT.1 rfl rfl) rfl rfl hl.1 rfl (lv_room (Nat.le_of_ble_eq_true rfl)) dX4_open_50 ⟨Nat.le_of_ble_eq_true rfl, Nat.le_of_ble_eq_true rfl⟩) hS (zTw_le hTA hAn hS) rfl rfl (fun H locs hT hS => ?_)
        refine z_join (pc2 := 62) (nL := 5) (lv := [(4, .int (iI (tw_oo w a1 a2))), (3, .int (iI (bI ((tw_isLink w a1) && (tw_isPerson a2))))), (0, .ref t.1), (1, .int (iI a1)), (2, .int (iI a2))]) (st2 := [.int (iI (if (((tw_isLink w a1) && (tw_isPerson a2)) && (!(decide (tw_oo w a1 a2 = (-1))))) = true then tw_oo w a1 a2 else 0))]) hS (fun J_8 => ?_) (fun locs ls hS hl => ?_)
        · refine z_ifb_eq (b := ((tw_isLink w a1) && (tw_isPerson a2)) && (!(decide (tw_oo w a1 a2 = (-1))))) (tgt := 61) hx hb dX4_open_53 (by decide) (fun c_9 => ?_) (fun c_9 => ?_)
          · refine lv_iconst (v := iI 0) hx hb dX4_open_61 rfl ?_
            refine z_top (x := 0) (y := if (((tw_isLink w a1) && (tw_isPerson a2)) && (!(decide (tw_oo w a1 a2 = (-1))))) = true then tw_oo w a1 a2 else 0) (by simp [bI, c_9]) ?_
            exact J_8 _ ls hS (lv_sub hl [0, 1, 2, 3, 4] rfl)
          · refine lv_iload hx hb dX4_open_56 (lv_at hl 0 rfl) ?_
            refine lv_goto (tgt := 62) hx hb dX4_open_58 (by decide) ?_
            refine z_top (x := tw_oo w a1 a2) (y := if (((tw_isLink w a1) && (tw_isPerson a2)) && (!(decide (tw_oo w a1 a2 = (-1))))) = true then tw_oo w a1 a2 else 0) (by simp [bI, c_9]) ?_
            exact J_8 _ ls hS (lv_sub hl [0, 1, 2, 3, 4] rfl)
        · exact z_iret hx hb hret rfl hlocks hS ⟨rfl, hT⟩ (Nat.le_of_ble_eq_true rfl) (Nat.le_of_ble_eq_true rfl) dX4_open_62
def tw_lt (w : Int → Int) (v : Int) : Nat → Int
  | 0 => 0
  | n + 1 => tw_lt w v n + bI (decide (tw_opens w n (w (5 + 32 * w (261 + 9 * v))) = v))
def qC_linksTo (w : Int → Int) (a1 : Int) : Int := tw_ok3 (tw_isVersion w a1) true true
def qA_linksTo (w : Int → Int) (a1 : Int) : Int := tw_lt w a1 (w 4).toNat
theorem hn_X4_linksTo : yX4_linksTo.cls ≠ "java/lang/invoke/MethodHandle" ∧ yX4_linksTo.cls ≠ "java/lang/invoke/VarHandle" ∧ (parseMethodDescriptor yX4_linksTo.desc).map (fun d => d.parameters.length) = some 1 := by decide +kernel
theorem hd_X4_linksTo : yX4_linksTo.cls = "CheckoutDeskModel" ∧ yX4_linksTo.cls ≠ "java/lang/invoke/MethodHandle" ∧ yX4_linksTo.cls ≠ "java/lang/invoke/VarHandle" ∧ (parseMethodDescriptor yX4_linksTo.desc).map (fun d => d.parameters.length) = some 1 := ⟨rfl, hn_X4_linksTo⟩
abbrev rm_X4_linksTo : Room := { frames := 5, cells := 0, slots := 0, locals := 108 }
set_option maxHeartbeats 1000000 in
theorem tc_linksTo (l : Launch) {G : zG} {t : zTau} {w kp lg hr : Int → Int} {ev rd th : Int} {H0 : Heap} (hT : zT G t w kp lg hr ev rd th H0) {a1 : Int} (ha1 : inR a1) {n_ : Int} (hI : tInv n_ w) (hn_ : n_ < 2000) : zM l yX4_linksTo (ws_ yX4_linksTo cX4_linksTo 5 (some .int)) rm_X4_linksTo G (zTw t H0) [.ref t.1, .int (iI a1)] H0 (fun r H1 => r = some (.int (iI (kA (qC_linksTo w a1) (qA_linksTo w a1)))) ∧ zT G t w kp lg hr ev rd (qC_linksTo w a1) H1) (fun _ => False) := by
  refine z_enter (by decide +kernel) (Nat.le_of_ble_eq_true rfl) ?_
  intro p e s m args below meth c ls hx hb hret hml hown hts hlocks htab hnm hK hH hl
  subst hH
  have hAn : ∀ q, s.heap.size ≤ q → zTw t s.heap q := fun _ h => Or.inr h
  have hTA : ∀ q, zTA t q → zTw t s.heap q := fun _ h => Or.inl h
  have hS : va_S (zTw t s.heap) s.heap s.heap [] := va_S.rf
  have hl : lv_has ls 5 [(0, .ref t.1), (1, .int (iI a1))] := hl
  have hrd := hT.2.2.2.2.2.2.2.2.2.2.2
  have hev := hT.2.2.2.2.2.2.2.2.2.2.1
  have hwR := hT.2.2.2.2.2.2.1
  obtain ⟨hD, hV, hL, hB, hVd, hLk, hClk, hDoc, hBr, hVer, hLnk, hNew, hFr⟩ := hI
  refine lv_aload_n hx hb dX4_linksTo_0 rfl (lv_at hl 0 rfl) ?_
  refine lv_aload_n hx hb dX4_linksTo_1 rfl (lv_at hl 0 rfl) ?_
  refine lv_iload_n hx hb dX4_linksTo_2 rfl (lv_at hl 1 rfl) ?_
  refine z_callp (vx_runV (As := [.int (iI a1)]) (rest := [.ref t.1]) ⟨hx, hb, hml, hown, hts⟩ (tc_isVersion l hT (v := a1) (by first | with_reducible assumption | omega | exact ⟨by omega, by omega⟩ | omega) (by first | with_reducible assumption | omega | exact ⟨by omega, by omega⟩ | omega)) (cwV 1 hts (lw_V q2501 q2503 qs30 q49 q2504) rfl rfl rfl hd_X4_isVersion ⟨Nat.le_of_ble_eq_true rfl, Nat.le_of_ble_eq_true rfl⟩) (z_preV hK hS (zN_le hAn hS) hT.1 rfl rfl) rfl rfl hl.1 rfl (lv_room (Nat.le_of_ble_eq_true rfl)) dX4_linksTo_3 ⟨Nat.le_of_ble_eq_true rfl, Nat.le_of_ble_eq_true rfl⟩) hS (zN_le hAn hS) rfl rfl (fun locs hS => ?_)
  refine z_callm (v := .int (iI (bI (tw_isVersion w a1)))) (P := (fun H1 => zT G t w kp lg hr ev rd (tw_ok3 (tw_isVersion w a1) true true) H1)) (vx_runV (As := [.int (iI (bI (tw_isVersion w a1)))]) (rest := []) ⟨hx, hb, hml, hown, hts⟩ (tc_ok_3 l hT (ba := tw_isVersion w a1)) (cwV 1 hts (lw_V q2384 q2386 qs14 q49 q2387) rfl rfl rfl hd_X4_ok_3 ⟨Nat.le_of_ble_eq_true rfl, Nat.le_of_ble_eq_true rfl⟩) (z_preV hK hS (zTw_le hTA hAn hS) hT.1 rfl rfl) rfl rfl hl.1 rfl (lv_room (Nat.le_of_ble_eq_true rfl)) dX4_linksTo_6 ⟨Nat.le_of_ble_eq_true rfl, Nat.le_of_ble_eq_true rfl⟩) hS (zTw_le hTA hAn hS) rfl rfl (fun H locs hT hS => ?_)
  refine z_ifb_ne (b := tw_isVersion w a1) (tgt := 14) hx hb dX4_linksTo_9 (by decide) (fun c_1 => ?_) (fun c_1 => ?_)
  · have hvx := tw_isVersion_iff.mp c_1
    have hvd := hVd _ hvx.1.1 hvx.1.2
    have hdoc := hDoc _ hvd.1 hvd.2
    refine lv_aload_n hx hb dX4_linksTo_14 rfl (lv_at hl 0 rfl) ?_
    refine z_get (k := 0) hx hb hts in_X4 hown hK hT.1 rfl (by decide) q2331 rfl (v := .ref t.2.1) rfl dX4_linksTo_15 ?_
    refine lv_aload_n hx hb dX4_linksTo_18 rfl (lv_at hl 0 rfl) ?_
    refine z_get (k := 0) hx hb hts in_X4 hown hK hT.1 rfl (by decide) q2331 rfl (v := .ref t.2.1) rfl dX4_linksTo_19 ?_
    refine lv_iload_n hx hb dX4_linksTo_22 rfl (lv_at hl 1 rfl) ?_
    refine z_callp (vx_runS (As := [.int (iI a1)]) (rest := [.ref t.2.1, .ref t.2.1]) ⟨hx, hb, hml, hown, hts⟩ (tc_ver l (v := a1)) (va_cwS 1 hts (lw_S q2405 q2406 q49 q2407) rfl rfl rfl hn_X4_ver ⟨Nat.le_of_ble_eq_true rfl, Nat.le_of_ble_eq_true rfl⟩) (z_preS hK hS (zN_le hAn hS)) rfl rfl hl.1 rfl (lv_room (Nat.le_of_ble_eq_true rfl)) dX4_linksTo_23 ⟨Nat.le_of_ble_eq_true rfl, Nat.le_of_ble_eq_true rfl⟩) hS (zN_le hAn hS) rfl rfl (fun locs hS => ?_)
    refine lv_iconst (v := iI 0) hx hb dX4_linksTo_26 rfl ?_
    refine z_iadd0 hx hb dX4_linksTo_27 ?_
    refine z_ildZ (i := 261 + 9 * a1) (f := w) hx hb hK hT.2.1 ⟨by omega, by omega⟩ (by decide) dX4_linksTo_28 ?_
    have r_2 : inR (w (261 + 9 * a1)) := hT.2.2.2.2.2.2.1 (261 + 9 * a1)
    refine z_callp (vx_runS (As := [.int (iI (w (261 + 9 * a1)))]) (rest := [.ref t.2.1]) ⟨hx, hb, hml, hown, hts⟩ (tc_doc l (d := w (261 + 9 * a1))) (va_cwS 1 hts (lw_S q2395 q2396 q49 q2397) rfl rfl rfl hn_X4_doc ⟨Nat.le_of_ble_eq_true rfl, Nat.le_of_ble_eq_true rfl⟩) (z_preS hK hS (zN_le hAn hS)) rfl rfl hl.1 rfl (lv_room (Nat.le_of_ble_eq_true rfl)) dX4_linksTo_29 ⟨Nat.le_of_ble_eq_true rfl, Nat.le_of_ble_eq_true rfl⟩) hS (zN_le hAn hS) rfl rfl (fun locs hS => ?_)
    refine lv_iconst (v := iI 0) hx hb dX4_linksTo_32 rfl ?_
    refine z_iadd0 hx hb dX4_linksTo_33 ?_
    refine z_ildZ (i := 5 + 32 * w (261 + 9 * a1)) (f := w) hx hb hK hT.2.1 ⟨by omega, by omega⟩ (by decide) dX4_linksTo_34 ?_
    have r_3 : inR (w (5 + 32 * w (261 + 9 * a1))) := hT.2.2.2.2.2.2.1 (5 + 32 * w (261 + 9 * a1))
    refine lv_istore_n (lv' := [(2, .int (iI (w (5 + 32 * w (261 + 9 * a1))))), (0, .ref t.1), (1, .int (iI a1))]) hx hb dX4_linksTo_35 rfl hl (by decide) rfl (fun ls hl => ?_)
    refine lv_iconst (v := iI 0) hx hb dX4_linksTo_36 rfl ?_
    refine lv_istore_n (lv' := [(3, .int (iI 0)), (2, .int (iI (w (5 + 32 * w (261 + 9 * a1))))), (0, .ref t.1), (1, .int (iI a1))]) hx hb dX4_linksTo_37 rfl hl (by decide) rfl (fun ls hl => ?_)
    refine lv_iconst (v := iI 0) hx hb dX4_linksTo_38 rfl ?_
    refine lv_istore (lv' := [(4, .int (iI 0)), (3, .int (iI 0)), (2, .int (iI (w (5 + 32 * w (261 + 9 * a1))))), (0, .ref t.1), (1, .int (iI a1))]) hx hb dX4_linksTo_39 hl (by decide) rfl (fun ls hl => ?_)
    refine z_loop (H0 := s.heap) (nL := 5) (hd := 41) (fun i_4 : Nat => [(3, .int (iI (tw_lt w a1 i_4))), (4, .int (iI ((i_4 : Nat) : Int))), (2, .int (iI (w (5 + 32 * w (261 + 9 * a1))))), (0, .ref t.1), (1, .int (iI a1))]) (fun i_4 : Nat => (i_4 : Int) ≤ w 4) (fun i_4 : Nat => (w 4 : Int).toNat - i_4) (fun i_4 locs hi_4 hS ih_5 ls hl => ?_) 0 _ ?_ hS ls (z_lvren (lv_sub hl [1, 0, 2, 3, 4] rfl) (by rfl))
    · have hl : lv_has ls 5 [(3, .int (iI (tw_lt w a1 i_4))), (4, .int (iI ((i_4 : Nat) : Int))), (2, .int (iI (w (5 + 32 * w (261 + 9 * a1))))), (0, .ref t.1), (1, .int (iI a1))] := hl
      have hi_4 : (i_4 : Int) ≤ w 4 := hi_4
      refine lv_iload hx hb dX4_linksTo_41 (lv_at hl 1 rfl) ?_
      refine lv_aload_n hx hb dX4_linksTo_43 rfl (lv_at hl 3 rfl) ?_
      refine z_get (k := 0) hx hb hts in_X4 hown hK hT.1 rfl (by decide) q2331 rfl (v := .ref t.2.1) rfl dX4_linksTo_44 ?_
      refine lv_iconst (v := iI 4) hx hb dX4_linksTo_47 rfl ?_
      refine z_ildZ (i := 4) (f := w) hx hb hK hT.2.1 ⟨by omega, by omega⟩ (by decide) dX4_linksTo_48 ?_
      have r_6 : inR (w 4) := hT.2.2.2.2.2.2.1 4
      refine z_icmp_ge (x := ((i_4 : Nat) : Int)) (y := w 4) (tgt := 77) hx hb (by first | with_reducible assumption | omega | exact ⟨by omega, by omega⟩) (by first | with_reducible assumption | omega | exact ⟨by omega, by omega⟩) dX4_linksTo_49 (by decide) (fun c_7 => ?_) (fun c_7 => ?_)
      · obtain rfl : i_4 = (w 4).toNat := by omega
        refine lv_iload_n hx hb dX4_linksTo_77 rfl (lv_at hl 0 rfl) ?_
        exact z_iret hx hb hret rfl hlocks hS (by have hc : qC_linksTo w a1 = 0 := (by unfold qC_linksTo; simp only [tw_ok3_0]; first | assumption | (simp_all; done)); exact ⟨by rw [kA, if_pos hc]; rfl, hT⟩) (Nat.le_of_ble_eq_true rfl) (Nat.le_of_ble_eq_true rfl) dX4_linksTo_78
      · refine lv_iload_n hx hb dX4_linksTo_52 rfl (lv_at hl 0 rfl) ?_
        refine lv_aload_n hx hb dX4_linksTo_53 rfl (lv_at hl 3 rfl) ?_
        refine lv_iload hx hb dX4_linksTo_54 (lv_at hl 1 rfl) ?_
        refine lv_iload_n hx hb dX4_linksTo_56 rfl (lv_at hl 2 rfl) ?_
        refine z_callp (vx_runV (As := [.int (iI ((i_4 : Nat) : Int)), .int (iI (w (5 + 32 * w (261 + 9 * a1))))]) (rest := [.int (iI (tw_lt w a1 i_4))]) ⟨hx, hb, hml, hown, hts⟩ (tc_opens l hT (k := ((i_4 : Nat) : Int)) (p_ := w (5 + 32 * w (261 + 9 * a1))) (by first | with_reducible assumption | omega | exact ⟨by omega, by omega⟩ | omega) (by first | with_reducible assumption | omega | exact ⟨by omega, by omega⟩ | omega) (by first | with_reducible assumption | omega | exact ⟨by omega, by omega⟩ | omega) (by first | with_reducible assumption | omega | exact ⟨by omega, by omega⟩ | omega) (by first | with_reducible assumption | omega | exact ⟨by omega, by omega⟩ | omega) (by first | with_reducible assumption | omega | exact ⟨by omega, by omega⟩ | omega) (by first | with_reducible assumption | omega | exact ⟨by omega, by omega⟩ | omega)) (cwV 2 hts (lw_V q2583 q2585 qs34 q49 q2586) rfl rfl rfl hd_X4_opens ⟨Nat.le_of_ble_eq_true rfl, Nat.le_of_ble_eq_true rfl⟩) (z_preV hK hS (zN_le hAn hS) hT.1 rfl rfl) rfl rfl hl.1 rfl (lv_room (Nat.le_of_ble_eq_true rfl)) dX4_linksTo_57 ⟨Nat.le_of_ble_eq_true rfl, Nat.le_of_ble_eq_true rfl⟩) hS (zN_le hAn hS) rfl rfl (fun locs hS => ?_)
        refine lv_iload_n hx hb dX4_linksTo_60 rfl (lv_at hl 4 rfl) ?_
        refine z_join (pc2 := 69) (nL := 5) (lv := [(3, .int (iI (tw_lt w a1 i_4))), (4, .int (iI ((i_4 : Nat) : Int))), (2, .int (iI (w (5 + 32 * w (261 + 9 * a1))))), (0, .ref t.1), (1, .int (iI a1))]) (st2 := [.int (iI (bI (decide (tw_opens w ((i_4 : Nat) : Int) (w (5 + 32 * w (261 + 9 * a1))) = a1)))), .int (iI (tw_lt w a1 i_4))]) hS (fun J_8 => ?_) (fun locs ls hS hl => ?_)
        · refine z_icmp_ne (x := tw_opens w ((i_4 : Nat) : Int) (w (5 + 32 * w (261 + 9 * a1)))) (y := a1) (tgt := 68) hx hb (tw_opens_inR (by with_reducible assumption) ⟨by omega, by omega⟩ (by with_reducible assumption)) (by first | with_reducible assumption | omega | exact ⟨by omega, by omega⟩) dX4_linksTo_61 (by decide) (fun c_9 => ?_) (fun c_9 => ?_)
          · refine lv_iconst (v := iI 0) hx hb dX4_linksTo_68 rfl ?_
            refine z_top (x := 0) (y := bI (decide (tw_opens w ((i_4 : Nat) : Int) (w (5 + 32 * w (261 + 9 * a1))) = a1))) (by simp [bI, c_9]) ?_
            exact J_8 _ ls hS (lv_sub hl [0, 1, 2, 3, 4] rfl)
          · refine lv_iconst (v := iI 1) hx hb dX4_linksTo_64 rfl ?_
            refine lv_goto (tgt := 69) hx hb dX4_linksTo_65 (by decide) ?_
            refine z_top (x := 1) (y := bI (decide (tw_opens w ((i_4 : Nat) : Int) (w (5 + 32 * w (261 + 9 * a1))) = a1))) (by simp [bI, c_9]) ?_
            exact J_8 _ ls hS (lv_sub hl [0, 1, 2, 3, 4] rfl)
        · refine z_iadd (x := tw_lt w a1 i_4) (y := bI (decide (tw_opens w ((i_4 : Nat) : Int) (w (5 + 32 * w (261 + 9 * a1))) = a1))) hx hb dX4_linksTo_69 ?_
          refine lv_istore_n (lv' := [(3, .int (iI (tw_lt w a1 i_4 + bI (decide (tw_opens w ((i_4 : Nat) : Int) (w (5 + 32 * w (261 + 9 * a1))) = a1))))), (4, .int (iI ((i_4 : Nat) : Int))), (2, .int (iI (w (5 + 32 * w (261 + 9 * a1))))), (0, .ref t.1), (1, .int (iI a1))]) hx hb dX4_linksTo_70 rfl hl (by decide) rfl (fun ls hl => ?_)
          refine lv_iinc (v := iI (((i_4 : Nat) : Int) + 1)) (lv' := [(4, .int (iI (((i_4 : Nat) : Int) + 1))), (3, .int (iI (tw_lt w a1 i_4 + bI (decide (tw_opens w ((i_4 : Nat) : Int) (w (5 + 32 * w (261 + 9 * a1))) = a1))))), (2, .int (iI (w (5 + 32 * w (261 + 9 * a1))))), (0, .ref t.1), (1, .int (iI a1))]) hx hb dX4_linksTo_71 hl (k := 1) rfl (iI_add _ _) (by decide) rfl (fun ls hl => ?_)
          refine lv_goto (tgt := 41) hx hb dX4_linksTo_74 (by decide) ?_
          exact ih_5 (i_4 + 1) locs (by omega) hS (by omega) ls (z_lvren (lv_sub hl [1, 0, 2, 3, 4] rfl) (by first | rfl | simp))
    · exact by omega
  · refine lv_iconst (v := iI 0) hx hb dX4_linksTo_12 rfl ?_
    exact z_iret hx hb hret rfl hlocks hS (by have hc : ¬ qC_linksTo w a1 = 0 := (by unfold qC_linksTo; simp only [tw_ok3_0]; first | (simp_all; done) | assumption); exact ⟨by rw [kA, if_neg hc], hT⟩) (Nat.le_of_ble_eq_true rfl) (Nat.le_of_ble_eq_true rfl) dX4_linksTo_13
def tw_rl (w : Int → Int) : Nat → Int
  | 0 => 0
  | n + 1 => tw_rl w n + bI (tw_isVersion w n && tw_isReleased w n)
def tw_th (w : Int → Int) : Nat → Int
  | 0 => 0
  | n + 1 => tw_th w n + bI (tw_isVersion w n)
theorem tw_rl_R (w : Int → Int) : ∀ n : Nat, 0 ≤ tw_rl w n ∧ tw_rl w n ≤ tw_th w n ∧ tw_th w n ≤ n
  | 0 => by unfold tw_rl tw_th; omega
  | n + 1 => by
    have h := tw_rl_R w n
    unfold tw_rl tw_th
    cases h1 : tw_isVersion w n <;> cases h2 : tw_isReleased w n <;> simp [bI] <;> omega
theorem z_fdiv_ok : ∀ r : Fin 61, ∀ n : Fin 61, n.val ≠ 0 → vf_n32 (FP.fdiv (FP.i2f (iI (r.val : Int))) (FP.i2f (iI (n.val : Int)))) := by
  unfold vf_n32
  decide +kernel
theorem z_ddiv_ok : ∀ r : Fin 25, ∀ n : Fin 9, n.val ≠ 0 → vf_n64 (FP.ddiv (FP.i2d (iI (r.val : Int))) (FP.i2d (iI (n.val : Int)))) := by
  unfold vf_n64
  decide +kernel
theorem z_fdiv_n {r n : Int} (hr : 0 ≤ r ∧ r ≤ 60) (hn : 0 < n ∧ n ≤ 60) : vf_n32 (FP.fdiv (FP.i2f (iI r)) (FP.i2f (iI n))) := by
  have h := z_fdiv_ok ⟨r.toNat, by omega⟩ ⟨n.toNat, by omega⟩ (by simp only; omega)
  simp only at h
  rwa [show ((r.toNat : Nat) : Int) = r by omega, show ((n.toNat : Nat) : Int) = n by omega] at h
theorem z_ddiv_n {r n : Int} (hr : 0 ≤ r ∧ r ≤ 24) (hn : 0 < n ∧ n ≤ 8) : vf_n64 (FP.ddiv (FP.i2d (iI r)) (FP.i2d (iI n))) := by
  have h := z_ddiv_ok ⟨r.toNat, by omega⟩ ⟨n.toNat, by omega⟩ (by simp only; omega)
  simp only at h
  rwa [show ((r.toNat : Nat) : Int) = r by omega, show ((n.toNat : Nat) : Int) = n by omega] at h
def qC_releasedShare (w : Int → Int) : Int := 0
def qA_releasedShare (w : Int → Int) : UInt32 := (if tw_th w (w 3).toNat = 0 then FP.fconst0 else FP.fdiv (FP.i2f (iI (tw_rl w (w 3).toNat))) (FP.i2f (iI (tw_th w (w 3).toNat))))
theorem hn_X4_releasedShare : yX4_releasedShare.cls ≠ "java/lang/invoke/MethodHandle" ∧ yX4_releasedShare.cls ≠ "java/lang/invoke/VarHandle" ∧ (parseMethodDescriptor yX4_releasedShare.desc).map (fun d => d.parameters.length) = some 0 := by decide +kernel
theorem hd_X4_releasedShare : yX4_releasedShare.cls = "CheckoutDeskModel" ∧ yX4_releasedShare.cls ≠ "java/lang/invoke/MethodHandle" ∧ yX4_releasedShare.cls ≠ "java/lang/invoke/VarHandle" ∧ (parseMethodDescriptor yX4_releasedShare.desc).map (fun d => d.parameters.length) = some 0 := ⟨rfl, hn_X4_releasedShare⟩
abbrev rm_X4_releasedShare : Room := { frames := 3, cells := 0, slots := 0, locals := 59 }
set_option maxHeartbeats 1000000 in
theorem tc_releasedShare (l : Launch) {G : zG} {t : zTau} {w kp lg hr : Int → Int} {ev rd th : Int} {H0 : Heap} (hT : zT G t w kp lg hr ev rd th H0) {n_ : Int} (hI : tInv n_ w) (hn_ : n_ < 2000) : zM l yX4_releasedShare (ws_ yX4_releasedShare cX4_releasedShare 4 (some .float)) rm_X4_releasedShare G (zTw t H0) [.ref t.1] H0 (fun r H1 => r = some (.float (qA_releasedShare w)) ∧ zT G t w kp lg hr ev rd (qC_releasedShare w) H1) (fun _ => False) := by
  refine z_enter (by decide +kernel) (Nat.le_of_ble_eq_true rfl) ?_
  intro p e s m args below meth c ls hx hb hret hml hown hts hlocks htab hnm hK hH hl
  subst hH
  have hAn : ∀ q, s.heap.size ≤ q → zTw t s.heap q := fun _ h => Or.inr h
  have hTA : ∀ q, zTA t q → zTw t s.heap q := fun _ h => Or.inl h
  have hS : va_S (zTw t s.heap) s.heap s.heap [] := va_S.rf
  have hl : lv_has ls 4 [(0, .ref t.1)] := hl
  have hrd := hT.2.2.2.2.2.2.2.2.2.2.2
  have hev := hT.2.2.2.2.2.2.2.2.2.2.1
  have hwR := hT.2.2.2.2.2.2.1
  obtain ⟨hD, hV, hL, hB, hVd, hLk, hClk, hDoc, hBr, hVer, hLnk, hNew, hFr⟩ := hI
  refine lv_aload_n hx hb dX4_releasedShare_0 rfl (lv_at hl 0 rfl) ?_
  refine lv_iconst (v := iI 0) hx hb dX4_releasedShare_1 rfl ?_
  refine zt_th (x := 0) hx hb hts hown hK q2337 hT hTA hS dX4_releasedShare_2 (fun H locs hT hS => ?_)
  refine lv_iconst (v := iI 0) hx hb dX4_releasedShare_5 rfl ?_
  refine lv_istore_n (lv' := [(1, .int (iI 0)), (0, .ref t.1)]) hx hb dX4_releasedShare_6 rfl hl (by decide) rfl (fun ls hl => ?_)
  refine lv_iconst (v := iI 0) hx hb dX4_releasedShare_7 rfl ?_
  refine lv_istore_n (lv' := [(2, .int (iI 0)), (1, .int (iI 0)), (0, .ref t.1)]) hx hb dX4_releasedShare_8 rfl hl (by decide) rfl (fun ls hl => ?_)
  refine lv_iconst (v := iI 0) hx hb dX4_releasedShare_9 rfl ?_
  refine lv_istore_n (lv' := [(3, .int (iI 0)), (2, .int (iI 0)), (1, .int (iI 0)), (0, .ref t.1)]) hx hb dX4_releasedShare_10 rfl hl (by decide) rfl (fun ls hl => ?_)
  refine z_loop (H0 := s.heap) (nL := 4) (hd := 11) (fun i_1 : Nat => [(1, .int (iI (tw_rl w i_1))), (2, .int (iI (tw_th w i_1))), (3, .int (iI ((i_1 : Nat) : Int))), (0, .ref t.1)]) (fun i_1 : Nat => (i_1 : Int) ≤ w 3) (fun i_1 : Nat => (w 3 : Int).toNat - i_1) (fun i_1 locs hi_1 hS ih_2 ls hl => ?_) 0 _ ?_ hS ls (z_lvren (lv_sub hl [2, 1, 0, 3] rfl) (by rfl))
  · have hl : lv_has ls 4 [(1, .int (iI (tw_rl w i_1))), (2, .int (iI (tw_th w i_1))), (3, .int (iI ((i_1 : Nat) : Int))), (0, .ref t.1)] := hl
    have hi_1 : (i_1 : Int) ≤ w 3 := hi_1
    have hrl := tw_rl_R w i_1
    refine lv_iload_n hx hb dX4_releasedShare_11 rfl (lv_at hl 2 rfl) ?_
    refine lv_aload_n hx hb dX4_releasedShare_12 rfl (lv_at hl 3 rfl) ?_
    refine z_get (k := 0) hx hb hts in_X4 hown hK hT.1 rfl (by decide) q2331 rfl (v := .ref t.2.1) rfl dX4_releasedShare_13 ?_
    refine lv_iconst (v := iI 3) hx hb dX4_releasedShare_16 rfl ?_
    refine z_ildZ (i := 3) (f := w) hx hb hK hT.2.1 ⟨by omega, by omega⟩ (by decide) dX4_releasedShare_17 ?_
    have r_3 : inR (w 3) := hT.2.2.2.2.2.2.1 3
    refine z_icmp_ge (x := ((i_1 : Nat) : Int)) (y := w 3) (tgt := 67) hx hb (by first | with_reducible assumption | omega | exact ⟨by omega, by omega⟩) (by first | with_reducible assumption | omega | exact ⟨by omega, by omega⟩) dX4_releasedShare_18 (by decide) (fun c_4 => ?_) (fun c_4 => ?_)
    · obtain rfl : i_1 = (w 3).toNat := by omega
      have hrl := tw_rl_R w (w 3).toNat
      refine lv_iload_n hx hb dX4_releasedShare_67 rfl (lv_at hl 1 rfl) ?_
      refine z_if_ne (x := tw_th w (w 3).toNat) (tgt := 75) hx hb (by first | with_reducible assumption | omega | exact ⟨by omega, by omega⟩) dX4_releasedShare_68 (by decide) (fun c_5 => ?_) (fun c_5 => ?_)
      · refine lv_iload_n hx hb dX4_releasedShare_75 rfl (lv_at hl 0 rfl) ?_
        refine lv_i2f hx hb dX4_releasedShare_76 ?_
        refine lv_iload_n hx hb dX4_releasedShare_77 rfl (lv_at hl 1 rfl) ?_
        refine lv_i2f hx hb dX4_releasedShare_78 ?_
        refine lv_fdiv hx hb dX4_releasedShare_79 (z_fdiv_n (by omega) (by omega)) ?_
        exact z_fret hx hb hret hlocks hS ⟨by rw [qA_releasedShare, if_neg c_5], hT⟩ (Nat.le_of_ble_eq_true rfl) (Nat.le_of_ble_eq_true rfl) dX4_releasedShare_80
      · refine lv_fconst0 hx hb dX4_releasedShare_71 ?_
        refine lv_goto (tgt := 80) hx hb dX4_releasedShare_72 (by decide) ?_
        exact z_fret hx hb hret hlocks hS ⟨by rw [qA_releasedShare, if_pos c_5], hT⟩ (Nat.le_of_ble_eq_true rfl) (Nat.le_of_ble_eq_true rfl) dX4_releasedShare_80
    · refine lv_iload_n hx hb dX4_releasedShare_21 rfl (lv_at hl 0 rfl) ?_
      refine lv_aload_n hx hb dX4_releasedShare_22 rfl (lv_at hl 3 rfl) ?_
      refine lv_iload_n hx hb dX4_releasedShare_23 rfl (lv_at hl 2 rfl) ?_
      refine z_callp (vx_runV (As := [.int (iI ((i_1 : Nat) : Int))]) (rest := [.int (iI (tw_rl w i_1))]) ⟨hx, hb, hml, hown, hts⟩ (tc_isVersion l hT (v := ((i_1 : Nat) : Int)) (by first | with_reducible assumption | omega | exact ⟨by omega, by omega⟩ | omega) (by first | with_reducible assumption | omega | exact ⟨by omega, by omega⟩ | omega)) (cwV 1 hts (lw_V q2501 q2503 qs30 q49 q2504) rfl rfl rfl hd_X4_isVersion ⟨Nat.le_of_ble_eq_true rfl, Nat.le_of_ble_eq_true rfl⟩) (z_preV hK hS (zN_le hAn hS) hT.1 rfl rfl) rfl rfl hl.1 rfl (lv_room (Nat.le_of_ble_eq_true rfl)) dX4_releasedShare_24 ⟨Nat.le_of_ble_eq_true rfl, Nat.le_of_ble_eq_true rfl⟩) hS (zN_le hAn hS) rfl rfl (fun locs hS => ?_)
      refine z_join (pc2 := 43) (nL := 4) (lv := [(1, .int (iI (tw_rl w i_1))), (2, .int (iI (tw_th w i_1))), (3, .int (iI ((i_1 : Nat) : Int))), (0, .ref t.1)]) (st2 := [.int (iI (bI ((tw_isVersion w ((i_1 : Nat) : Int)) && (tw_isReleased w ((i_1 : Nat) : Int))))), .int (iI (tw_rl w i_1))]) hS (fun J_6 => ?_) (fun locs ls hS hl => ?_)
      · refine z_ifb_eq (b := tw_isVersion w ((i_1 : Nat) : Int)) (tgt := 42) hx hb dX4_releasedShare_27 (by decide) (fun c_7 => ?_) (fun c_7 => ?_)
        · refine lv_iconst (v := iI 0) hx hb dX4_releasedShare_42 rfl ?_
          refine z_top (x := 0) (y := bI ((tw_isVersion w ((i_1 : Nat) : Int)) && (tw_isReleased w ((i_1 : Nat) : Int)))) (by simp [bI, c_7]) ?_
          exact J_6 _ ls hS (lv_sub hl [0, 1, 2, 3] rfl)
        · refine lv_aload_n hx hb dX4_releasedShare_30 rfl (lv_at hl 3 rfl) ?_
          refine lv_iload_n hx hb dX4_releasedShare_31 rfl (lv_at hl 2 rfl) ?_
          refine z_callp (vx_runV (As := [.int (iI ((i_1 : Nat) : Int))]) (rest := [.int (iI (tw_rl w i_1))]) ⟨hx, hb, hml, hown, hts⟩ (tc_isReleased l hT (v := ((i_1 : Nat) : Int)) (by first | with_reducible assumption | omega | exact ⟨by omega, by omega⟩ | omega)) (cwV 1 hts (lw_V q2485 q2487 qs28 q49 q2488) rfl rfl rfl hd_X4_isReleased ⟨Nat.le_of_ble_eq_true rfl, Nat.le_of_ble_eq_true rfl⟩) (z_preV hK hS (zN_le hAn hS) hT.1 rfl rfl) rfl rfl hl.1 rfl (lv_room (Nat.le_of_ble_eq_true rfl)) dX4_releasedShare_32 ⟨Nat.le_of_ble_eq_true rfl, Nat.le_of_ble_eq_true rfl⟩) hS (zN_le hAn hS) rfl rfl (fun locs hS => ?_)
          refine z_ifb_eq (b := tw_isReleased w ((i_1 : Nat) : Int)) (tgt := 42) hx hb dX4_releasedShare_35 (by decide) (fun c_8 => ?_) (fun c_8 => ?_)
          · refine lv_iconst (v := iI 0) hx hb dX4_releasedShare_42 rfl ?_
            refine z_top (x := 0) (y := bI ((tw_isVersion w ((i_1 : Nat) : Int)) && (tw_isReleased w ((i_1 : Nat) : Int)))) (by simp [bI, c_7, c_8]) ?_
            exact J_6 _ ls hS (lv_sub hl [0, 1, 2, 3] rfl)
          · refine lv_iconst (v := iI 1) hx hb dX4_releasedShare_38 rfl ?_
            refine lv_goto (tgt := 43) hx hb dX4_releasedShare_39 (by decide) ?_
            refine z_top (x := 1) (y := bI ((tw_isVersion w ((i_1 : Nat) : Int)) && (tw_isReleased w ((i_1 : Nat) : Int)))) (by simp [bI, c_7, c_8]) ?_
            exact J_6 _ ls hS (lv_sub hl [0, 1, 2, 3] rfl)
      · refine z_iadd (x := tw_rl w i_1) (y := bI ((tw_isVersion w ((i_1 : Nat) : Int)) && (tw_isReleased w ((i_1 : Nat) : Int)))) hx hb dX4_releasedShare_43 ?_
        refine lv_istore_n (lv' := [(1, .int (iI (tw_rl w i_1 + bI ((tw_isVersion w ((i_1 : Nat) : Int)) && (tw_isReleased w ((i_1 : Nat) : Int)))))), (2, .int (iI (tw_th w i_1))), (3, .int (iI ((i_1 : Nat) : Int))), (0, .ref t.1)]) hx hb dX4_releasedShare_44 rfl hl (by decide) rfl (fun ls hl => ?_)
        refine lv_iload_n hx hb dX4_releasedShare_45 rfl (lv_at hl 1 rfl) ?_
        refine lv_aload_n hx hb dX4_releasedShare_46 rfl (lv_at hl 3 rfl) ?_
        refine lv_iload_n hx hb dX4_releasedShare_47 rfl (lv_at hl 2 rfl) ?_
        refine z_callp (vx_runV (As := [.int (iI ((i_1 : Nat) : Int))]) (rest := [.int (iI (tw_th w i_1))]) ⟨hx, hb, hml, hown, hts⟩ (tc_isVersion l hT (v := ((i_1 : Nat) : Int)) (by first | with_reducible assumption | omega | exact ⟨by omega, by omega⟩ | omega) (by first | with_reducible assumption | omega | exact ⟨by omega, by omega⟩ | omega)) (cwV 1 hts (lw_V q2501 q2503 qs30 q49 q2504) rfl rfl rfl hd_X4_isVersion ⟨Nat.le_of_ble_eq_true rfl, Nat.le_of_ble_eq_true rfl⟩) (z_preV hK hS (zN_le hAn hS) hT.1 rfl rfl) rfl rfl hl.1 rfl (lv_room (Nat.le_of_ble_eq_true rfl)) dX4_releasedShare_48 ⟨Nat.le_of_ble_eq_true rfl, Nat.le_of_ble_eq_true rfl⟩) hS (zN_le hAn hS) rfl rfl (fun locs hS => ?_)
        refine z_join (pc2 := 59) (nL := 4) (lv := [(1, .int (iI (tw_rl w i_1 + bI ((tw_isVersion w ((i_1 : Nat) : Int)) && (tw_isReleased w ((i_1 : Nat) : Int)))))), (2, .int (iI (tw_th w i_1))), (3, .int (iI ((i_1 : Nat) : Int))), (0, .ref t.1)]) (st2 := [.int (iI (bI (tw_isVersion w ((i_1 : Nat) : Int)))), .int (iI (tw_th w i_1))]) hS (fun J_9 => ?_) (fun locs ls hS hl => ?_)
        · refine z_ifb_eq (b := tw_isVersion w ((i_1 : Nat) : Int)) (tgt := 58) hx hb dX4_releasedShare_51 (by decide) (fun c_10 => ?_) (fun c_10 => ?_)
          · refine lv_iconst (v := iI 0) hx hb dX4_releasedShare_58 rfl ?_
            refine z_top (x := 0) (y := bI (tw_isVersion w ((i_1 : Nat) : Int))) (by simp [bI, c_10]) ?_
            exact J_9 _ ls hS (lv_sub hl [0, 1, 2, 3] rfl)
          · refine lv_iconst (v := iI 1) hx hb dX4_releasedShare_54 rfl ?_
            refine lv_goto (tgt := 59) hx hb dX4_releasedShare_55 (by decide) ?_
            refine z_top (x := 1) (y := bI (tw_isVersion w ((i_1 : Nat) : Int))) (by simp [bI, c_10]) ?_
            exact J_9 _ ls hS (lv_sub hl [0, 1, 2, 3] rfl)
        · refine z_iadd (x := tw_th w i_1) (y := bI (tw_isVersion w ((i_1 : Nat) : Int))) hx hb dX4_releasedShare_59 ?_
          refine lv_istore_n (lv' := [(2, .int (iI (tw_th w i_1 + bI (tw_isVersion w ((i_1 : Nat) : Int))))), (1, .int (iI (tw_rl w i_1 + bI ((tw_isVersion w ((i_1 : Nat) : Int)) && (tw_isReleased w ((i_1 : Nat) : Int)))))), (3, .int (iI ((i_1 : Nat) : Int))), (0, .ref t.1)]) hx hb dX4_releasedShare_60 rfl hl (by decide) rfl (fun ls hl => ?_)
          refine lv_iinc (v := iI (((i_1 : Nat) : Int) + 1)) (lv' := [(3, .int (iI (((i_1 : Nat) : Int) + 1))), (2, .int (iI (tw_th w i_1 + bI (tw_isVersion w ((i_1 : Nat) : Int))))), (1, .int (iI (tw_rl w i_1 + bI ((tw_isVersion w ((i_1 : Nat) : Int)) && (tw_isReleased w ((i_1 : Nat) : Int)))))), (0, .ref t.1)]) hx hb dX4_releasedShare_61 hl (k := 2) rfl (iI_add _ _) (by decide) rfl (fun ls hl => ?_)
          refine lv_goto (tgt := 11) hx hb dX4_releasedShare_64 (by decide) ?_
          exact ih_2 (i_1 + 1) locs (by omega) hS (by omega) ls (z_lvren (lv_sub hl [2, 1, 0, 3] rfl) (by first | rfl | simp))
  · exact by omega
def tw_lb (w : Int → Int) (d base : Int) : Nat → Int
  | 0 => base
  | n + 1 => tw_lb w d base n + bI (decide (0 < tw_left w d n))
def tw_lk (w : Int → Int) : Nat → Int
  | 0 => 0
  | n + 1 => tw_lb w n (tw_lk w n) (w (5 + 32 * n + 1)).toNat
theorem tw_lb_R (w : Int → Int) (d base : Int) : ∀ n : Nat, base ≤ tw_lb w d base n ∧ tw_lb w d base n ≤ base + n
  | 0 => by unfold tw_lb; omega
  | n + 1 => by
    have h := tw_lb_R w d base n
    have h2 := bI_01 (decide (0 < tw_left w d n))
    unfold tw_lb
    omega
theorem tw_lk_R {w : Int → Int} (hB : tB w) : ∀ n : Nat, (n : Int) ≤ w 2 → 0 ≤ tw_lk w n ∧ tw_lk w n ≤ 3 * n
  | 0, _ => by unfold tw_lk; omega
  | n + 1, hn => by
    have h := tw_lk_R hB n (by omega)
    have h2 := tw_lb_R w n (tw_lk w n) (w (5 + 32 * n + 1)).toNat
    have h3 := hB n (by omega) (by omega)
    unfold tw_lk
    omega
def qC_lockedPer (w : Int → Int) : Int := 0
def qA_lockedPer (w : Int → Int) : UInt64 := (if w 2 = 0 then FP.dconst0 else FP.ddiv (FP.i2d (iI (tw_lk w (w 2).toNat))) (FP.i2d (iI (w 2))))
theorem hn_X4_lockedPer : yX4_lockedPer.cls ≠ "java/lang/invoke/MethodHandle" ∧ yX4_lockedPer.cls ≠ "java/lang/invoke/VarHandle" ∧ (parseMethodDescriptor yX4_lockedPer.desc).map (fun d => d.parameters.length) = some 0 := by decide +kernel
theorem hd_X4_lockedPer : yX4_lockedPer.cls = "CheckoutDeskModel" ∧ yX4_lockedPer.cls ≠ "java/lang/invoke/MethodHandle" ∧ yX4_lockedPer.cls ≠ "java/lang/invoke/VarHandle" ∧ (parseMethodDescriptor yX4_lockedPer.desc).map (fun d => d.parameters.length) = some 0 := ⟨rfl, hn_X4_lockedPer⟩
abbrev rm_X4_lockedPer : Room := { frames := 4, cells := 0, slots := 0, locals := 80 }
set_option maxHeartbeats 1000000 in
theorem tc_lockedPer (l : Launch) {G : zG} {t : zTau} {w kp lg hr : Int → Int} {ev rd th : Int} {H0 : Heap} (hT : zT G t w kp lg hr ev rd th H0) {n_ : Int} (hI : tInv n_ w) (hn_ : n_ < 2000) : zM l yX4_lockedPer (ws_ yX4_lockedPer cX4_lockedPer 4 (some .double)) rm_X4_lockedPer G (zTw t H0) [.ref t.1] H0 (fun r H1 => r = some (.double (qA_lockedPer w)) ∧ zT G t w kp lg hr ev rd (qC_lockedPer w) H1) (fun _ => False) := by
  refine z_enter (by decide +kernel) (Nat.le_of_ble_eq_true rfl) ?_
  intro p e s m args below meth c ls hx hb hret hml hown hts hlocks htab hnm hK hH hl
  subst hH
  have hAn : ∀ q, s.heap.size ≤ q → zTw t s.heap q := fun _ h => Or.inr h
  have hTA : ∀ q, zTA t q → zTw t s.heap q := fun _ h => Or.inl h
  have hS : va_S (zTw t s.heap) s.heap s.heap [] := va_S.rf
  have hl : lv_has ls 4 [(0, .ref t.1)] := hl
  have hrd := hT.2.2.2.2.2.2.2.2.2.2.2
  have hev := hT.2.2.2.2.2.2.2.2.2.2.1
  have hwR := hT.2.2.2.2.2.2.1
  obtain ⟨hD, hV, hL, hB, hVd, hLk, hClk, hDoc, hBr, hVer, hLnk, hNew, hFr⟩ := hI
  refine lv_aload_n hx hb dX4_lockedPer_0 rfl (lv_at hl 0 rfl) ?_
  refine lv_iconst (v := iI 0) hx hb dX4_lockedPer_1 rfl ?_
  refine zt_th (x := 0) hx hb hts hown hK q2337 hT hTA hS dX4_lockedPer_2 (fun H locs hT hS => ?_)
  refine lv_iconst (v := iI 0) hx hb dX4_lockedPer_5 rfl ?_
  refine lv_istore_n (lv' := [(1, .int (iI 0)), (0, .ref t.1)]) hx hb dX4_lockedPer_6 rfl hl (by decide) rfl (fun ls hl => ?_)
  refine lv_iconst (v := iI 0) hx hb dX4_lockedPer_7 rfl ?_
  refine lv_istore_n (lv' := [(2, .int (iI 0)), (1, .int (iI 0)), (0, .ref t.1)]) hx hb dX4_lockedPer_8 rfl hl (by decide) rfl (fun ls hl => ?_)
  refine z_loop (H0 := s.heap) (nL := 4) (hd := 9) (fun i_1 : Nat => [(1, .int (iI (tw_lk w i_1))), (2, .int (iI ((i_1 : Nat) : Int))), (0, .ref t.1)]) (fun i_1 : Nat => (i_1 : Int) ≤ w 2) (fun i_1 : Nat => (w 2 : Int).toNat - i_1) (fun i_1 locs hi_1 hS ih_2 ls hl => ?_) 0 _ ?_ hS ls (z_lvren (lv_sub hl [1, 0, 2] rfl) (by rfl))
  · have hl : lv_has ls 4 [(1, .int (iI (tw_lk w i_1))), (2, .int (iI ((i_1 : Nat) : Int))), (0, .ref t.1)] := hl
    have hi_1 : (i_1 : Int) ≤ w 2 := hi_1
    refine lv_iload_n hx hb dX4_lockedPer_9 rfl (lv_at hl 1 rfl) ?_
    refine lv_aload_n hx hb dX4_lockedPer_10 rfl (lv_at hl 2 rfl) ?_
    refine z_get (k := 0) hx hb hts in_X4 hown hK hT.1 rfl (by decide) q2331 rfl (v := .ref t.2.1) rfl dX4_lockedPer_11 ?_
    refine lv_iconst (v := iI 2) hx hb dX4_lockedPer_14 rfl ?_
    refine z_ildZ (i := 2) (f := w) hx hb hK hT.2.1 ⟨by omega, by omega⟩ (by decide) dX4_lockedPer_15 ?_
    have r_3 : inR (w 2) := hT.2.2.2.2.2.2.1 2
    refine z_icmp_ge (x := ((i_1 : Nat) : Int)) (y := w 2) (tgt := 65) hx hb (by first | with_reducible assumption | omega | exact ⟨by omega, by omega⟩) (by first | with_reducible assumption | omega | exact ⟨by omega, by omega⟩) dX4_lockedPer_16 (by decide) (fun c_4 => ?_) (fun c_4 => ?_)
    · obtain rfl : i_1 = (w 2).toNat := by omega
      have hlk := tw_lk_R hB (w 2).toNat (by omega)
      refine lv_aload_n hx hb dX4_lockedPer_65 rfl (lv_at hl 2 rfl) ?_
      refine z_get (k := 0) hx hb hts in_X4 hown hK hT.1 rfl (by decide) q2331 rfl (v := .ref t.2.1) rfl dX4_lockedPer_66 ?_
      refine lv_iconst (v := iI 2) hx hb dX4_lockedPer_69 rfl ?_
      refine z_ildZ (i := 2) (f := w) hx hb hK hT.2.1 ⟨by omega, by omega⟩ (by decide) dX4_lockedPer_70 ?_
      have r_5 : inR (w 2) := hT.2.2.2.2.2.2.1 2
      refine z_if_ne (x := w 2) (tgt := 78) hx hb (by first | with_reducible assumption | omega | exact ⟨by omega, by omega⟩) dX4_lockedPer_71 (by decide) (fun c_6 => ?_) (fun c_6 => ?_)
      · refine lv_iload_n hx hb dX4_lockedPer_78 rfl (lv_at hl 0 rfl) ?_
        refine lv_i2d hx hb dX4_lockedPer_79 ?_
        refine lv_aload_n hx hb dX4_lockedPer_80 rfl (lv_at hl 2 rfl) ?_
        refine z_get (k := 0) hx hb hts in_X4 hown hK hT.1 rfl (by decide) q2331 rfl (v := .ref t.2.1) rfl dX4_lockedPer_81 ?_
        refine lv_iconst (v := iI 2) hx hb dX4_lockedPer_84 rfl ?_
        refine z_ildZ (i := 2) (f := w) hx hb hK hT.2.1 ⟨by omega, by omega⟩ (by decide) dX4_lockedPer_85 ?_
        have r_7 : inR (w 2) := hT.2.2.2.2.2.2.1 2
        refine lv_i2d hx hb dX4_lockedPer_86 ?_
        refine lv_ddiv hx hb dX4_lockedPer_87 (z_ddiv_n (by omega) (by omega)) ?_
        exact z_dret hx hb hret hlocks hS ⟨by rw [qA_lockedPer, if_neg c_6], hT⟩ (Nat.le_of_ble_eq_true rfl) (Nat.le_of_ble_eq_true rfl) dX4_lockedPer_88
      · refine lv_dconst0 hx hb dX4_lockedPer_74 ?_
        refine lv_goto (tgt := 88) hx hb dX4_lockedPer_75 (by decide) ?_
        exact z_dret hx hb hret hlocks hS ⟨by rw [qA_lockedPer, if_pos c_6], hT⟩ (Nat.le_of_ble_eq_true rfl) (Nat.le_of_ble_eq_true rfl) dX4_lockedPer_88
    · have hb3 := hB ((i_1 : Nat) : Int) (by omega) (by omega)
      refine lv_iconst (v := iI 0) hx hb dX4_lockedPer_19 rfl ?_
      refine lv_istore_n (lv' := [(3, .int (iI 0)), (1, .int (iI (tw_lk w i_1))), (2, .int (iI ((i_1 : Nat) : Int))), (0, .ref t.1)]) hx hb dX4_lockedPer_20 rfl hl (by decide) rfl (fun ls hl => ?_)
      refine z_loop (H0 := s.heap) (nL := 4) (hd := 21) (fun i_8 : Nat => [(1, .int (iI (tw_lb w ((i_1 : Nat) : Int) (tw_lk w i_1) i_8))), (3, .int (iI ((i_8 : Nat) : Int))), (2, .int (iI ((i_1 : Nat) : Int))), (0, .ref t.1)]) (fun i_8 : Nat => (i_8 : Int) ≤ w (5 + 32 * ((i_1 : Nat) : Int) + 1)) (fun i_8 : Nat => (w (5 + 32 * ((i_1 : Nat) : Int) + 1) : Int).toNat - i_8) (fun i_8 locs hi_8 hS ih_9 ls hl => ?_) 0 _ ?_ hS ls (z_lvren (lv_sub hl [1, 0, 2, 3] rfl) (by rfl))
      · have hl : lv_has ls 4 [(1, .int (iI (tw_lb w ((i_1 : Nat) : Int) (tw_lk w i_1) i_8))), (3, .int (iI ((i_8 : Nat) : Int))), (2, .int (iI ((i_1 : Nat) : Int))), (0, .ref t.1)] := hl
        have hi_8 : (i_8 : Int) ≤ w (5 + 32 * ((i_1 : Nat) : Int) + 1) := hi_8
        refine lv_iload_n hx hb dX4_lockedPer_21 rfl (lv_at hl 1 rfl) ?_
        refine lv_aload_n hx hb dX4_lockedPer_22 rfl (lv_at hl 3 rfl) ?_
        refine z_get (k := 0) hx hb hts in_X4 hown hK hT.1 rfl (by decide) q2331 rfl (v := .ref t.2.1) rfl dX4_lockedPer_23 ?_
        refine lv_iload_n hx hb dX4_lockedPer_26 rfl (lv_at hl 2 rfl) ?_
        refine z_callp (vx_runS (As := [.int (iI ((i_1 : Nat) : Int))]) (rest := [.ref t.2.1, .int (iI ((i_8 : Nat) : Int))]) ⟨hx, hb, hml, hown, hts⟩ (tc_doc l (d := ((i_1 : Nat) : Int))) (va_cwS 1 hts (lw_S q2395 q2396 q49 q2397) rfl rfl rfl hn_X4_doc ⟨Nat.le_of_ble_eq_true rfl, Nat.le_of_ble_eq_true rfl⟩) (z_preS hK hS (zN_le hAn hS)) rfl rfl hl.1 rfl (lv_room (Nat.le_of_ble_eq_true rfl)) dX4_lockedPer_27 ⟨Nat.le_of_ble_eq_true rfl, Nat.le_of_ble_eq_true rfl⟩) hS (zN_le hAn hS) rfl rfl (fun locs hS => ?_)
        refine lv_iconst (v := iI 1) hx hb dX4_lockedPer_30 rfl ?_
        refine z_iadd (x := 5 + 32 * ((i_1 : Nat) : Int)) (y := 1) hx hb dX4_lockedPer_31 ?_
        refine z_ildZ (i := 5 + 32 * ((i_1 : Nat) : Int) + 1) (f := w) hx hb hK hT.2.1 ⟨by omega, by omega⟩ (by decide) dX4_lockedPer_32 ?_
        have r_10 : inR (w (5 + 32 * ((i_1 : Nat) : Int) + 1)) := hT.2.2.2.2.2.2.1 (5 + 32 * ((i_1 : Nat) : Int) + 1)
        refine z_icmp_ge (x := ((i_8 : Nat) : Int)) (y := w (5 + 32 * ((i_1 : Nat) : Int) + 1)) (tgt := 59) hx hb (by first | with_reducible assumption | omega | exact ⟨by omega, by omega⟩) (by first | with_reducible assumption | omega | exact ⟨by omega, by omega⟩) dX4_lockedPer_33 (by decide) (fun c_11 => ?_) (fun c_11 => ?_)
        · obtain rfl : i_8 = (w (5 + 32 * ((i_1 : Nat) : Int) + 1)).toNat := by omega
          refine lv_iinc (v := iI (((i_1 : Nat) : Int) + 1)) (lv' := [(2, .int (iI (((i_1 : Nat) : Int) + 1))), (1, .int (iI (tw_lb w ((i_1 : Nat) : Int) (tw_lk w i_1) (w (5 + 32 * ((i_1 : Nat) : Int) + 1)).toNat))), (3, .int (iI (((w (5 + 32 * ((i_1 : Nat) : Int) + 1)).toNat : Nat) : Int))), (0, .ref t.1)]) hx hb dX4_lockedPer_59 hl (k := 2) rfl (iI_add _ _) (by decide) rfl (fun ls hl => ?_)
          refine lv_goto (tgt := 9) hx hb dX4_lockedPer_62 (by decide) ?_
          exact ih_2 (i_1 + 1) locs (by omega) hS (by omega) ls (z_lvren (lv_sub hl [1, 0, 3] rfl) (by first | rfl | simp))
        · obtain ⟨hho, hgv, -⟩ := hBr ((i_1 : Nat) : Int) ((i_8 : Nat) : Int) (by omega) (by omega) (by omega) (by omega)
          have hgl : inR (w (5 + 32 * ((i_1 : Nat) : Int) + 8 + 8 * ((i_8 : Nat) : Int) + 2) + w 1 - w 0) := ⟨by omega, by omega⟩
          refine lv_iload_n hx hb dX4_lockedPer_36 rfl (lv_at hl 0 rfl) ?_
          refine lv_aload_n hx hb dX4_lockedPer_37 rfl (lv_at hl 3 rfl) ?_
          refine lv_iload_n hx hb dX4_lockedPer_38 rfl (lv_at hl 2 rfl) ?_
          refine lv_iload_n hx hb dX4_lockedPer_39 rfl (lv_at hl 1 rfl) ?_
          refine z_callp (vx_runV (As := [.int (iI ((i_1 : Nat) : Int)), .int (iI ((i_8 : Nat) : Int))]) (rest := [.int (iI (tw_lb w ((i_1 : Nat) : Int) (tw_lk w i_1) i_8))]) ⟨hx, hb, hml, hown, hts⟩ (tc_left l hT (d := ((i_1 : Nat) : Int)) (b := ((i_8 : Nat) : Int)) (by first | with_reducible assumption | omega | exact ⟨by omega, by omega⟩ | omega) (by first | with_reducible assumption | omega | exact ⟨by omega, by omega⟩ | omega) (by first | with_reducible assumption | omega | exact ⟨by omega, by omega⟩ | omega)) (cwV 2 hts (lw_V q2436 q2438 qs21 q49 q2439) rfl rfl rfl hd_X4_left ⟨Nat.le_of_ble_eq_true rfl, Nat.le_of_ble_eq_true rfl⟩) (z_preV hK hS (zN_le hAn hS) hT.1 rfl rfl) rfl rfl hl.1 rfl (lv_room (Nat.le_of_ble_eq_true rfl)) dX4_lockedPer_40 ⟨Nat.le_of_ble_eq_true rfl, Nat.le_of_ble_eq_true rfl⟩) hS (zN_le hAn hS) rfl rfl (fun locs hS => ?_)
          refine z_join (pc2 := 51) (nL := 4) (lv := [(1, .int (iI (tw_lb w ((i_1 : Nat) : Int) (tw_lk w i_1) i_8))), (3, .int (iI ((i_8 : Nat) : Int))), (2, .int (iI ((i_1 : Nat) : Int))), (0, .ref t.1)]) (st2 := [.int (iI (bI (decide (0 < tw_left w ((i_1 : Nat) : Int) ((i_8 : Nat) : Int))))), .int (iI (tw_lb w ((i_1 : Nat) : Int) (tw_lk w i_1) i_8))]) hS (fun J_12 => ?_) (fun locs ls hS hl => ?_)
          · refine z_if_le (x := tw_left w ((i_1 : Nat) : Int) ((i_8 : Nat) : Int)) (tgt := 50) hx hb (tw_left_R (by with_reducible assumption)) dX4_lockedPer_43 (by decide) (fun c_13 => ?_) (fun c_13 => ?_)
            · refine lv_iconst (v := iI 0) hx hb dX4_lockedPer_50 rfl ?_
              refine z_top (x := 0) (y := bI (decide (0 < tw_left w ((i_1 : Nat) : Int) ((i_8 : Nat) : Int)))) (by simp [bI, c_13]) ?_
              exact J_12 _ ls hS (lv_sub hl [0, 1, 2, 3] rfl)
            · refine lv_iconst (v := iI 1) hx hb dX4_lockedPer_46 rfl ?_
              refine lv_goto (tgt := 51) hx hb dX4_lockedPer_47 (by decide) ?_
              refine z_top (x := 1) (y := bI (decide (0 < tw_left w ((i_1 : Nat) : Int) ((i_8 : Nat) : Int)))) (by simp [bI, c_13]) ?_
              exact J_12 _ ls hS (lv_sub hl [0, 1, 2, 3] rfl)
          · refine z_iadd (x := tw_lb w ((i_1 : Nat) : Int) (tw_lk w i_1) i_8) (y := bI (decide (0 < tw_left w ((i_1 : Nat) : Int) ((i_8 : Nat) : Int)))) hx hb dX4_lockedPer_51 ?_
            refine lv_istore_n (lv' := [(1, .int (iI (tw_lb w ((i_1 : Nat) : Int) (tw_lk w i_1) i_8 + bI (decide (0 < tw_left w ((i_1 : Nat) : Int) ((i_8 : Nat) : Int)))))), (3, .int (iI ((i_8 : Nat) : Int))), (2, .int (iI ((i_1 : Nat) : Int))), (0, .ref t.1)]) hx hb dX4_lockedPer_52 rfl hl (by decide) rfl (fun ls hl => ?_)
            refine lv_iinc (v := iI (((i_8 : Nat) : Int) + 1)) (lv' := [(3, .int (iI (((i_8 : Nat) : Int) + 1))), (1, .int (iI (tw_lb w ((i_1 : Nat) : Int) (tw_lk w i_1) i_8 + bI (decide (0 < tw_left w ((i_1 : Nat) : Int) ((i_8 : Nat) : Int)))))), (2, .int (iI ((i_1 : Nat) : Int))), (0, .ref t.1)]) hx hb dX4_lockedPer_53 hl (k := 1) rfl (iI_add _ _) (by decide) rfl (fun ls hl => ?_)
            refine lv_goto (tgt := 21) hx hb dX4_lockedPer_56 (by decide) ?_
            exact ih_9 (i_8 + 1) locs (by omega) hS (by omega) ls (z_lvren (lv_sub hl [1, 0, 2, 3] rfl) (by first | rfl | simp))
      · exact by omega
  · exact by omega
def qC_hourOf (hr : Int → Int) (ev : Int) (a1 : Int) : Int := tw_ok3 (tw_lies a1 0 ev) true true
def qA_hourOf (hr : Int → Int) (ev : Int) (a1 : Int) : Int := if (tw_lies a1 0 ev) = true then (if 0 < a1 then hr (a1 - 1) else 0) else 0
theorem hn_X4_hourOf : yX4_hourOf.cls ≠ "java/lang/invoke/MethodHandle" ∧ yX4_hourOf.cls ≠ "java/lang/invoke/VarHandle" ∧ (parseMethodDescriptor yX4_hourOf.desc).map (fun d => d.parameters.length) = some 1 := by decide +kernel
theorem hd_X4_hourOf : yX4_hourOf.cls = "CheckoutDeskModel" ∧ yX4_hourOf.cls ≠ "java/lang/invoke/MethodHandle" ∧ yX4_hourOf.cls ≠ "java/lang/invoke/VarHandle" ∧ (parseMethodDescriptor yX4_hourOf.desc).map (fun d => d.parameters.length) = some 1 := ⟨rfl, hn_X4_hourOf⟩
abbrev rm_X4_hourOf : Room := { frames := 3, cells := 0, slots := 0, locals := 60 }
set_option maxHeartbeats 1000000 in
theorem tc_hourOf (l : Launch) {G : zG} {t : zTau} {w kp lg hr : Int → Int} {ev rd th : Int} {H0 : Heap} (hT : zT G t w kp lg hr ev rd th H0) {a1 : Int} (ha1 : inR a1) : zM l yX4_hourOf (ws_ yX4_hourOf cX4_hourOf 3 (some .int)) rm_X4_hourOf G (zTw t H0) [.ref t.1, .int (iI a1)] H0 (fun r H1 => r = some (.int (iI (qA_hourOf hr ev a1))) ∧ zT G t w kp lg hr ev rd (qC_hourOf hr ev a1) H1) (fun _ => False) := by
  refine z_enter (by decide +kernel) (Nat.le_of_ble_eq_true rfl) ?_
  intro p e s m args below meth c ls hx hb hret hml hown hts hlocks htab hnm hK hH hl
  subst hH
  have hAn : ∀ q, s.heap.size ≤ q → zTw t s.heap q := fun _ h => Or.inr h
  have hTA : ∀ q, zTA t q → zTw t s.heap q := fun _ h => Or.inl h
  have hS : va_S (zTw t s.heap) s.heap s.heap [] := va_S.rf
  have hl : lv_has ls 3 [(0, .ref t.1), (1, .int (iI a1))] := hl
  have hrd := hT.2.2.2.2.2.2.2.2.2.2.2
  have hev := hT.2.2.2.2.2.2.2.2.2.2.1
  have hwR := hT.2.2.2.2.2.2.1
  refine lv_iload_n hx hb dX4_hourOf_0 rfl (lv_at hl 1 rfl) ?_
  refine lv_iconst (v := iI 0) hx hb dX4_hourOf_1 rfl ?_
  refine lv_aload_n hx hb dX4_hourOf_2 rfl (lv_at hl 0 rfl) ?_
  refine z_get (k := 4) hx hb hts in_X4 hown hK hT.1 rfl (by decide) q2335 rfl (v := .int (iI ev)) rfl dX4_hourOf_3 ?_
  refine z_callp (vx_runS (As := [.int (iI a1), .int (iI 0), .int (iI ev)]) (rest := []) ⟨hx, hb, hml, hown, hts⟩ (tc_lies l (v := a1) (low := 0) (high := ev) (by first | with_reducible assumption | omega | exact ⟨by omega, by omega⟩ | omega) (by first | with_reducible assumption | omega | exact ⟨by omega, by omega⟩ | omega) (by first | with_reducible assumption | omega | exact ⟨by omega, by omega⟩ | omega)) (va_cwS 3 hts (lw_S q2365 q2366 q49 q2367) rfl rfl rfl hn_X4_lies ⟨Nat.le_of_ble_eq_true rfl, Nat.le_of_ble_eq_true rfl⟩) (z_preS hK hS (zN_le hAn hS)) rfl rfl hl.1 rfl (lv_room (Nat.le_of_ble_eq_true rfl)) dX4_hourOf_6 ⟨Nat.le_of_ble_eq_true rfl, Nat.le_of_ble_eq_true rfl⟩) hS (zN_le hAn hS) rfl rfl (fun locs hS => ?_)
  refine lv_istore_n (lv' := [(2, .int (iI (bI (tw_lies a1 0 ev)))), (0, .ref t.1), (1, .int (iI a1))]) hx hb dX4_hourOf_9 rfl hl (by decide) rfl (fun ls hl => ?_)
  refine lv_aload_n hx hb dX4_hourOf_10 rfl (lv_at hl 1 rfl) ?_
  refine lv_iload_n hx hb dX4_hourOf_11 rfl (lv_at hl 0 rfl) ?_
  refine z_callm (v := .int (iI (bI (tw_lies a1 0 ev)))) (P := (fun H1 => zT G t w kp lg hr ev rd (tw_ok3 (tw_lies a1 0 ev) true true) H1)) (vx_runV (As := [.int (iI (bI (tw_lies a1 0 ev)))]) (rest := []) ⟨hx, hb, hml, hown, hts⟩ (tc_ok_3 l hT (ba := tw_lies a1 0 ev)) (cwV 1 hts (lw_V q2384 q2386 qs14 q49 q2387) rfl rfl rfl hd_X4_ok_3 ⟨Nat.le_of_ble_eq_true rfl, Nat.le_of_ble_eq_true rfl⟩) (z_preV hK hS (zTw_le hTA hAn hS) hT.1 rfl rfl) rfl rfl hl.1 rfl (lv_room (Nat.le_of_ble_eq_true rfl)) dX4_hourOf_12 ⟨Nat.le_of_ble_eq_true rfl, Nat.le_of_ble_eq_true rfl⟩) hS (zTw_le hTA hAn hS) rfl rfl (fun H locs hT hS => ?_)
  refine z_join (pc2 := 34) (nL := 3) (lv := [(2, .int (iI (bI (tw_lies a1 0 ev)))), (0, .ref t.1), (1, .int (iI a1))]) (st2 := [.int (iI (if (tw_lies a1 0 ev) = true then (if 0 < a1 then hr (a1 - 1) else 0) else 0))]) hS (fun J_1 => ?_) (fun locs ls hS hl => ?_)
  · refine z_ifb_eq (b := tw_lies a1 0 ev) (tgt := 33) hx hb dX4_hourOf_15 (by decide) (fun c_2 => ?_) (fun c_2 => ?_)
    · refine lv_iconst (v := iI 0) hx hb dX4_hourOf_33 rfl ?_
      refine z_top (x := 0) (y := if (tw_lies a1 0 ev) = true then (if 0 < a1 then hr (a1 - 1) else 0) else 0) (by simp [bI, c_2]) ?_
      exact J_1 _ ls hS (lv_sub hl [0, 1, 2] rfl)
    · have hev1 := tw_lies_iff.mp c_2
      refine lv_iload_n hx hb dX4_hourOf_18 rfl (lv_at hl 2 rfl) ?_
      refine z_if_le (x := a1) (tgt := 33) hx hb (by first | with_reducible assumption | omega | exact ⟨by omega, by omega⟩) dX4_hourOf_19 (by decide) (fun c_3 => ?_) (fun c_3 => ?_)
      · refine lv_iconst (v := iI 0) hx hb dX4_hourOf_33 rfl ?_
        refine z_top (x := 0) (y := if (tw_lies a1 0 ev) = true then (if 0 < a1 then hr (a1 - 1) else 0) else 0) (by simp [bI, c_2, c_3]) ?_
        exact J_1 _ ls hS (lv_sub hl [0, 1, 2] rfl)
      · refine lv_aload_n hx hb dX4_hourOf_22 rfl (lv_at hl 1 rfl) ?_
        refine z_get (k := 3) hx hb hts in_X4 hown hK hT.1 rfl (by decide) q2334 rfl (v := .ref t.2.2.2.2) rfl dX4_hourOf_23 ?_
        refine lv_iload_n hx hb dX4_hourOf_26 rfl (lv_at hl 2 rfl) ?_
        refine lv_iconst (v := iI 1) hx hb dX4_hourOf_27 rfl ?_
        refine z_isub (x := a1) (y := 1) hx hb dX4_hourOf_28 ?_
        refine z_ildZ (i := a1 - 1) (f := hr) hx hb hK hT.2.2.2.2.1 ⟨by omega, by omega⟩ (by decide) dX4_hourOf_29 ?_
        have r_4 : inR (hr (a1 - 1)) := hT.2.2.2.2.2.2.2.2.2.1 (a1 - 1)
        refine lv_goto (tgt := 34) hx hb dX4_hourOf_30 (by decide) ?_
        refine z_top (x := hr (a1 - 1)) (y := if (tw_lies a1 0 ev) = true then (if 0 < a1 then hr (a1 - 1) else 0) else 0) (by simp [bI, c_2, c_3]) ?_
        exact J_1 _ ls hS (lv_sub hl [0, 1, 2] rfl)
  · exact z_iret hx hb hret rfl hlocks hS ⟨rfl, hT⟩ (Nat.le_of_ble_eq_true rfl) (Nat.le_of_ble_eq_true rfl) dX4_hourOf_34
