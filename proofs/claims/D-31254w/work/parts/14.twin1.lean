set_option maxRecDepth 100000
abbrev tD (w : Int → Int) : Prop := 0 ≤ w 2 ∧ w 2 ≤ 8
abbrev tV (w : Int → Int) : Prop := 0 ≤ w 3 ∧ w 3 ≤ 60
abbrev tL (w : Int → Int) : Prop := 0 ≤ w 4 ∧ w 4 ≤ 24
abbrev tB (w : Int → Int) : Prop := ∀ d : Int, 0 ≤ d → d < w 2 → 1 ≤ w (5 + 32 * d + 1) ∧ w (5 + 32 * d + 1) ≤ 3
abbrev tVd (w : Int → Int) : Prop := ∀ v : Int, 0 ≤ v → v < w 3 → 0 ≤ w (261 + 9 * v) ∧ w (261 + 9 * v) < w 2
abbrev tLk (w : Int → Int) : Prop := ∀ k : Int, 0 ≤ k → k < w 4 → (w (801 + 3 * k + 1) = 0 → 0 ≤ w (801 + 3 * k + 2) ∧ w (801 + 3 * k + 2) < w 3)
def tw_lies (v low high : Int) : Bool := !(decide (v < low)) && (!(decide (high < v)))
theorem hn_X4_lies : yX4_lies.cls ≠ "java/lang/invoke/MethodHandle" ∧ yX4_lies.cls ≠ "java/lang/invoke/VarHandle" ∧ (parseMethodDescriptor yX4_lies.desc).map (fun d => d.parameters.length) = some 3 := by decide +kernel
theorem hd_X4_lies : yX4_lies.cls = "CheckoutDeskModel" ∧ yX4_lies.cls ≠ "java/lang/invoke/MethodHandle" ∧ yX4_lies.cls ≠ "java/lang/invoke/VarHandle" ∧ (parseMethodDescriptor yX4_lies.desc).map (fun d => d.parameters.length) = some 3 := ⟨rfl, hn_X4_lies⟩
abbrev rm_X4_lies : Room := { frames := 1, cells := 0, slots := 0, locals := 16 }
set_option maxHeartbeats 4000000 in
theorem tc_lies (l : Launch) {G : zG} {H0 : Heap} {v low high : Int} (hv : inR v) (hlow : inR low) (hhigh : inR high) : zM l yX4_lies (ws_ yX4_lies cX4_lies 3 (some .boolean)) rm_X4_lies G (zN H0) [.int (iI v), .int (iI low), .int (iI high)] H0 (fun r H1 => r = some (.int (iI (bI (tw_lies v low high)))) ∧ H1 = H0) (fun _ => False) := by
  refine z_enter (by decide +kernel) (Nat.le_of_ble_eq_true rfl) ?_
  intro p e s m args below meth c ls hx hb hr hml hown hts hlocks htab hnm hK hH hl
  subst hH
  have hAn : ∀ q, s.heap.size ≤ q → zN s.heap q := fun _ h => h
  have hS : va_S (zN s.heap) s.heap s.heap [] := va_S.rf
  have hl : lv_has ls 3 [(0, .int (iI v)), (1, .int (iI low)), (2, .int (iI high))] := hl
  refine lv_iload_n hx hb dX4_lies_0 rfl (lv_at hl 0 rfl) ?_
  refine lv_iload_n hx hb dX4_lies_1 rfl (lv_at hl 1 rfl) ?_
  refine z_join (pc2 := 15) (nL := 3) (lv := [(0, .int (iI v)), (1, .int (iI low)), (2, .int (iI high))]) (st2 := [.int (iI (bI (!(decide (v < low)) && (!(decide (high < v))))))]) hS (fun J_1 => ?_) (fun locs ls hS hl => ?_)
  · refine z_icmp_lt (x := v) (y := low) (tgt := 14) hx hb (by first | assumption | exact ⟨by omega, by omega⟩) (by first | assumption | exact ⟨by omega, by omega⟩) dX4_lies_2 (by decide) (fun c_2 => ?_) (fun c_2 => ?_)
    · refine lv_iconst (v := iI 0) hx hb dX4_lies_14 rfl ?_
      refine z_top (x := 0) (y := bI (!(decide (v < low)) && (!(decide (high < v))))) (by simp [bI, c_2]) ?_
      exact J_1 _ ls hS (lv_sub hl [0, 1, 2] rfl)
    · refine lv_iload_n hx hb dX4_lies_5 rfl (lv_at hl 0 rfl) ?_
      refine lv_iload_n hx hb dX4_lies_6 rfl (lv_at hl 2 rfl) ?_
      refine z_icmp_gt (x := v) (y := high) (tgt := 14) hx hb (by first | assumption | exact ⟨by omega, by omega⟩) (by first | assumption | exact ⟨by omega, by omega⟩) dX4_lies_7 (by decide) (fun c_3 => ?_) (fun c_3 => ?_)
      · refine lv_iconst (v := iI 0) hx hb dX4_lies_14 rfl ?_
        refine z_top (x := 0) (y := bI (!(decide (v < low)) && (!(decide (high < v))))) (by simp [bI, c_2, c_3]) ?_
        exact J_1 _ ls hS (lv_sub hl [0, 1, 2] rfl)
      · refine lv_iconst (v := iI 1) hx hb dX4_lies_10 rfl ?_
        refine lv_goto (tgt := 15) hx hb dX4_lies_11 (by decide) ?_
        refine z_top (x := 1) (y := bI (!(decide (v < low)) && (!(decide (high < v))))) (by simp [bI, c_2, c_3]) ?_
        exact J_1 _ ls hS (lv_sub hl [0, 1, 2] rfl)
  · exact z_iret hx hb hr (z_nar _) hlocks hS ⟨rfl, rfl⟩ (Nat.le_of_ble_eq_true rfl) (Nat.le_of_ble_eq_true rfl) dX4_lies_15
theorem tw_lies_iff {v lo hi : Int} : tw_lies v lo hi = true ↔ lo ≤ v ∧ v ≤ hi := by simp [tw_lies]
theorem hn_X4_doc : yX4_doc.cls ≠ "java/lang/invoke/MethodHandle" ∧ yX4_doc.cls ≠ "java/lang/invoke/VarHandle" ∧ (parseMethodDescriptor yX4_doc.desc).map (fun d => d.parameters.length) = some 1 := by decide +kernel
theorem hd_X4_doc : yX4_doc.cls = "CheckoutDeskModel" ∧ yX4_doc.cls ≠ "java/lang/invoke/MethodHandle" ∧ yX4_doc.cls ≠ "java/lang/invoke/VarHandle" ∧ (parseMethodDescriptor yX4_doc.desc).map (fun d => d.parameters.length) = some 1 := ⟨rfl, hn_X4_doc⟩
abbrev rm_X4_doc : Room := { frames := 1, cells := 0, slots := 0, locals := 16 }
set_option maxHeartbeats 4000000 in
theorem tc_doc (l : Launch) {G : zG} {H0 : Heap} {d : Int}  : zM l yX4_doc (ws_ yX4_doc cX4_doc 1 (some .int)) rm_X4_doc G (zN H0) [.int (iI d)] H0 (fun r H1 => r = some (.int (iI (5 + 32 * d))) ∧ H1 = H0) (fun _ => False) := by
  refine z_enter (by decide +kernel) (Nat.le_of_ble_eq_true rfl) ?_
  intro p e s m args below meth c ls hx hb hr hml hown hts hlocks htab hnm hK hH hl
  subst hH
  have hAn : ∀ q, s.heap.size ≤ q → zN s.heap q := fun _ h => h
  have hS : va_S (zN s.heap) s.heap s.heap [] := va_S.rf
  have hl : lv_has ls 1 [(0, .int (iI d))] := hl
  refine lv_iconst (v := iI 5) hx hb dX4_doc_0 rfl ?_
  refine lv_bipush (v := iI 32) hx hb dX4_doc_1 (by decide) ?_
  refine lv_iload_n hx hb dX4_doc_3 rfl (lv_at hl 0 rfl) ?_
  refine z_imul (x := 32) (y := d) hx hb dX4_doc_4 ?_
  refine z_iadd (x := 5) (y := 32 * d) hx hb dX4_doc_5 ?_
  exact z_iret hx hb hr rfl hlocks hS ⟨rfl, rfl⟩ (Nat.le_of_ble_eq_true rfl) (Nat.le_of_ble_eq_true rfl) dX4_doc_6
theorem hn_X4_place : yX4_place.cls ≠ "java/lang/invoke/MethodHandle" ∧ yX4_place.cls ≠ "java/lang/invoke/VarHandle" ∧ (parseMethodDescriptor yX4_place.desc).map (fun d => d.parameters.length) = some 2 := by decide +kernel
theorem hd_X4_place : yX4_place.cls = "CheckoutDeskModel" ∧ yX4_place.cls ≠ "java/lang/invoke/MethodHandle" ∧ yX4_place.cls ≠ "java/lang/invoke/VarHandle" ∧ (parseMethodDescriptor yX4_place.desc).map (fun d => d.parameters.length) = some 2 := ⟨rfl, hn_X4_place⟩
abbrev rm_X4_place : Room := { frames := 2, cells := 0, slots := 0, locals := 36 }
set_option maxHeartbeats 4000000 in
theorem tc_place (l : Launch) {G : zG} {H0 : Heap} {d b : Int}  : zM l yX4_place (ws_ yX4_place cX4_place 2 (some .int)) rm_X4_place G (zN H0) [.int (iI d), .int (iI b)] H0 (fun r H1 => r = some (.int (iI (5 + 32 * d + 8 + 8 * b))) ∧ H1 = H0) (fun _ => False) := by
  refine z_enter (by decide +kernel) (Nat.le_of_ble_eq_true rfl) ?_
  intro p e s m args below meth c ls hx hb hr hml hown hts hlocks htab hnm hK hH hl
  subst hH
  have hAn : ∀ q, s.heap.size ≤ q → zN s.heap q := fun _ h => h
  have hS : va_S (zN s.heap) s.heap s.heap [] := va_S.rf
  have hl : lv_has ls 2 [(0, .int (iI d)), (1, .int (iI b))] := hl
  refine lv_iload_n hx hb dX4_place_0 rfl (lv_at hl 0 rfl) ?_
  refine z_callp (vx_runS (As := [.int (iI d)]) (rest := []) ⟨hx, hb, hml, hown, hts⟩ (tc_doc l (d := d)) (va_cwS 1 hts (lw_S q2395 q2396 q49 q2397) rfl rfl rfl hn_X4_doc ⟨Nat.le_of_ble_eq_true rfl, Nat.le_of_ble_eq_true rfl⟩) (z_preS hK hS (zN_le hAn hS)) rfl rfl hl.1 rfl (lv_room (Nat.le_of_ble_eq_true rfl)) dX4_place_1 ⟨Nat.le_of_ble_eq_true rfl, Nat.le_of_ble_eq_true rfl⟩) hS (zN_le hAn hS) rfl rfl (fun locs hS => ?_)
  refine lv_bipush (v := iI 8) hx hb dX4_place_4 (by decide) ?_
  refine z_iadd (x := 5 + 32 * d) (y := 8) hx hb dX4_place_6 ?_
  refine lv_bipush (v := iI 8) hx hb dX4_place_7 (by decide) ?_
  refine lv_iload_n hx hb dX4_place_9 rfl (lv_at hl 1 rfl) ?_
  refine z_imul (x := 8) (y := b) hx hb dX4_place_10 ?_
  refine z_iadd (x := 5 + 32 * d + 8) (y := 8 * b) hx hb dX4_place_11 ?_
  exact z_iret hx hb hr rfl hlocks hS ⟨rfl, rfl⟩ (Nat.le_of_ble_eq_true rfl) (Nat.le_of_ble_eq_true rfl) dX4_place_12
theorem hn_X4_ver : yX4_ver.cls ≠ "java/lang/invoke/MethodHandle" ∧ yX4_ver.cls ≠ "java/lang/invoke/VarHandle" ∧ (parseMethodDescriptor yX4_ver.desc).map (fun d => d.parameters.length) = some 1 := by decide +kernel
theorem hd_X4_ver : yX4_ver.cls = "CheckoutDeskModel" ∧ yX4_ver.cls ≠ "java/lang/invoke/MethodHandle" ∧ yX4_ver.cls ≠ "java/lang/invoke/VarHandle" ∧ (parseMethodDescriptor yX4_ver.desc).map (fun d => d.parameters.length) = some 1 := ⟨rfl, hn_X4_ver⟩
abbrev rm_X4_ver : Room := { frames := 1, cells := 0, slots := 0, locals := 16 }
set_option maxHeartbeats 4000000 in
theorem tc_ver (l : Launch) {G : zG} {H0 : Heap} {v : Int}  : zM l yX4_ver (ws_ yX4_ver cX4_ver 1 (some .int)) rm_X4_ver G (zN H0) [.int (iI v)] H0 (fun r H1 => r = some (.int (iI (261 + 9 * v))) ∧ H1 = H0) (fun _ => False) := by
  refine z_enter (by decide +kernel) (Nat.le_of_ble_eq_true rfl) ?_
  intro p e s m args below meth c ls hx hb hr hml hown hts hlocks htab hnm hK hH hl
  subst hH
  have hAn : ∀ q, s.heap.size ≤ q → zN s.heap q := fun _ h => h
  have hS : va_S (zN s.heap) s.heap s.heap [] := va_S.rf
  have hl : lv_has ls 1 [(0, .int (iI v))] := hl
  refine lv_sipush (v := iI 261) hx hb dX4_ver_0 (by decide) ?_
  refine lv_bipush (v := iI 9) hx hb dX4_ver_3 (by decide) ?_
  refine lv_iload_n hx hb dX4_ver_5 rfl (lv_at hl 0 rfl) ?_
  refine z_imul (x := 9) (y := v) hx hb dX4_ver_6 ?_
  refine z_iadd (x := 261) (y := 9 * v) hx hb dX4_ver_7 ?_
  exact z_iret hx hb hr rfl hlocks hS ⟨rfl, rfl⟩ (Nat.le_of_ble_eq_true rfl) (Nat.le_of_ble_eq_true rfl) dX4_ver_8
def tw_isPerson (p_ : Int) : Bool := tw_lies p_ 0 5
theorem hn_X4_isPerson : yX4_isPerson.cls ≠ "java/lang/invoke/MethodHandle" ∧ yX4_isPerson.cls ≠ "java/lang/invoke/VarHandle" ∧ (parseMethodDescriptor yX4_isPerson.desc).map (fun d => d.parameters.length) = some 1 := by decide +kernel
theorem hd_X4_isPerson : yX4_isPerson.cls = "CheckoutDeskModel" ∧ yX4_isPerson.cls ≠ "java/lang/invoke/MethodHandle" ∧ yX4_isPerson.cls ≠ "java/lang/invoke/VarHandle" ∧ (parseMethodDescriptor yX4_isPerson.desc).map (fun d => d.parameters.length) = some 1 := ⟨rfl, hn_X4_isPerson⟩
abbrev rm_X4_isPerson : Room := { frames := 2, cells := 0, slots := 0, locals := 38 }
set_option maxHeartbeats 4000000 in
theorem tc_isPerson (l : Launch) {G : zG} {H0 : Heap} {p_ : Int} (hp_ : inR p_) : zM l yX4_isPerson (ws_ yX4_isPerson cX4_isPerson 1 (some .boolean)) rm_X4_isPerson G (zN H0) [.int (iI p_)] H0 (fun r H1 => r = some (.int (iI (bI (tw_isPerson p_)))) ∧ H1 = H0) (fun _ => False) := by
  refine z_enter (by decide +kernel) (Nat.le_of_ble_eq_true rfl) ?_
  intro p e s m args below meth c ls hx hb hr hml hown hts hlocks htab hnm hK hH hl
  subst hH
  have hAn : ∀ q, s.heap.size ≤ q → zN s.heap q := fun _ h => h
  have hS : va_S (zN s.heap) s.heap s.heap [] := va_S.rf
  have hl : lv_has ls 1 [(0, .int (iI p_))] := hl
  refine lv_iload_n hx hb dX4_isPerson_0 rfl (lv_at hl 0 rfl) ?_
  refine lv_iconst (v := iI 0) hx hb dX4_isPerson_1 rfl ?_
  refine lv_iconst (v := iI 5) hx hb dX4_isPerson_2 rfl ?_
  refine z_callp (vx_runS (As := [.int (iI p_), .int (iI 0), .int (iI 5)]) (rest := []) ⟨hx, hb, hml, hown, hts⟩ (tc_lies l (v := p_) (low := 0) (high := 5) (by first | assumption | exact ⟨by omega, by omega⟩ | omega) (by first | assumption | exact ⟨by omega, by omega⟩ | omega) (by first | assumption | exact ⟨by omega, by omega⟩ | omega)) (va_cwS 3 hts (lw_S q2365 q2366 q49 q2367) rfl rfl rfl hn_X4_lies ⟨Nat.le_of_ble_eq_true rfl, Nat.le_of_ble_eq_true rfl⟩) (z_preS hK hS (zN_le hAn hS)) rfl rfl hl.1 rfl (lv_room (Nat.le_of_ble_eq_true rfl)) dX4_isPerson_3 ⟨Nat.le_of_ble_eq_true rfl, Nat.le_of_ble_eq_true rfl⟩) hS (zN_le hAn hS) rfl rfl (fun locs hS => ?_)
  exact z_iret hx hb hr (z_nar _) hlocks hS ⟨rfl, rfl⟩ (Nat.le_of_ble_eq_true rfl) (Nat.le_of_ble_eq_true rfl) dX4_isPerson_6
theorem tw_isPerson_iff {p : Int} : tw_isPerson p = true ↔ 0 ≤ p ∧ p ≤ 5 := tw_lies_iff
def tw_isDocument (w : Int → Int) (d : Int) : Bool := tw_lies d 0 (w 2 - 1)
theorem hn_X4_isDocument : yX4_isDocument.cls ≠ "java/lang/invoke/MethodHandle" ∧ yX4_isDocument.cls ≠ "java/lang/invoke/VarHandle" ∧ (parseMethodDescriptor yX4_isDocument.desc).map (fun d => d.parameters.length) = some 1 := by decide +kernel
theorem hd_X4_isDocument : yX4_isDocument.cls = "CheckoutDeskModel" ∧ yX4_isDocument.cls ≠ "java/lang/invoke/MethodHandle" ∧ yX4_isDocument.cls ≠ "java/lang/invoke/VarHandle" ∧ (parseMethodDescriptor yX4_isDocument.desc).map (fun d => d.parameters.length) = some 1 := ⟨rfl, hn_X4_isDocument⟩
abbrev rm_X4_isDocument : Room := { frames := 2, cells := 0, slots := 0, locals := 38 }
set_option maxHeartbeats 4000000 in
theorem tc_isDocument (l : Launch) {G : zG} {t : zTau} {w kp lg hr : Int → Int} {ev rd th : Int} {H0 : Heap} (hT : zT G t w kp lg hr ev rd th H0) {d : Int} (hd : inR d) (hD : tD w) : zM l yX4_isDocument (ws_ yX4_isDocument cX4_isDocument 2 (some .boolean)) rm_X4_isDocument G (zN H0) [.ref t.1, .int (iI d)] H0 (fun r H1 => r = some (.int (iI (bI (tw_isDocument w d)))) ∧ H1 = H0) (fun _ => False) := by
  refine z_enter (by decide +kernel) (Nat.le_of_ble_eq_true rfl) ?_
  intro p e s m args below meth c ls hx hb hr hml hown hts hlocks htab hnm hK hH hl
  subst hH
  have hAn : ∀ q, s.heap.size ≤ q → zN s.heap q := fun _ h => h
  have hS : va_S (zN s.heap) s.heap s.heap [] := va_S.rf
  have hl : lv_has ls 2 [(0, .ref t.1), (1, .int (iI d))] := hl
  refine lv_iload_n hx hb dX4_isDocument_0 rfl (lv_at hl 1 rfl) ?_
  refine lv_iconst (v := iI 0) hx hb dX4_isDocument_1 rfl ?_
  refine lv_aload_n hx hb dX4_isDocument_2 rfl (lv_at hl 0 rfl) ?_
  refine z_get (k := 0) hx hb hts in_X4 hown hK hT.1 rfl (by decide) q2331 rfl (v := .ref t.2.1) rfl dX4_isDocument_3 ?_
  refine lv_iconst (v := iI 2) hx hb dX4_isDocument_6 rfl ?_
  refine z_ildZ (i := 2) (f := w) hx hb hK hT.2.1 ⟨by omega, by omega⟩ (by decide) dX4_isDocument_7 ?_
  have r_1 : inR (w 2) := hT.2.2.2.2.2.2.1 2
  refine lv_iconst (v := iI 1) hx hb dX4_isDocument_8 rfl ?_
  refine z_isub (x := w 2) (y := 1) hx hb dX4_isDocument_9 ?_
  refine z_callp (vx_runS (As := [.int (iI d), .int (iI 0), .int (iI (w 2 - 1))]) (rest := []) ⟨hx, hb, hml, hown, hts⟩ (tc_lies l (v := d) (low := 0) (high := w 2 - 1) (by first | assumption | exact ⟨by omega, by omega⟩ | omega) (by first | assumption | exact ⟨by omega, by omega⟩ | omega) (by first | assumption | exact ⟨by omega, by omega⟩ | omega)) (va_cwS 3 hts (lw_S q2365 q2366 q49 q2367) rfl rfl rfl hn_X4_lies ⟨Nat.le_of_ble_eq_true rfl, Nat.le_of_ble_eq_true rfl⟩) (z_preS hK hS (zN_le hAn hS)) rfl rfl hl.1 rfl (lv_room (Nat.le_of_ble_eq_true rfl)) dX4_isDocument_10 ⟨Nat.le_of_ble_eq_true rfl, Nat.le_of_ble_eq_true rfl⟩) hS (zN_le hAn hS) rfl rfl (fun locs hS => ?_)
  exact z_iret hx hb hr (z_nar _) hlocks hS ⟨rfl, rfl⟩ (Nat.le_of_ble_eq_true rfl) (Nat.le_of_ble_eq_true rfl) dX4_isDocument_13
theorem tw_isDocument_iff {w : Int → Int} {d : Int} : tw_isDocument w d = true ↔ 0 ≤ d ∧ d < w 2 := by unfold tw_isDocument; rw [tw_lies_iff]; omega
def tw_isBranch (w : Int → Int) (d b : Int) : Bool := (tw_isDocument w d) && (tw_lies b 0 (w (5 + 32 * d + 1) - 1))
theorem hn_X4_isBranch : yX4_isBranch.cls ≠ "java/lang/invoke/MethodHandle" ∧ yX4_isBranch.cls ≠ "java/lang/invoke/VarHandle" ∧ (parseMethodDescriptor yX4_isBranch.desc).map (fun d => d.parameters.length) = some 2 := by decide +kernel
theorem hd_X4_isBranch : yX4_isBranch.cls = "CheckoutDeskModel" ∧ yX4_isBranch.cls ≠ "java/lang/invoke/MethodHandle" ∧ yX4_isBranch.cls ≠ "java/lang/invoke/VarHandle" ∧ (parseMethodDescriptor yX4_isBranch.desc).map (fun d => d.parameters.length) = some 2 := ⟨rfl, hn_X4_isBranch⟩
abbrev rm_X4_isBranch : Room := { frames := 3, cells := 0, slots := 0, locals := 59 }
set_option maxHeartbeats 4000000 in
theorem tc_isBranch (l : Launch) {G : zG} {t : zTau} {w kp lg hr : Int → Int} {ev rd th : Int} {H0 : Heap} (hT : zT G t w kp lg hr ev rd th H0) {d b : Int} (hd : inR d) (hb : inR b) (hD : tD w) (hB : tB w) : zM l yX4_isBranch (ws_ yX4_isBranch cX4_isBranch 3 (some .boolean)) rm_X4_isBranch G (zN H0) [.ref t.1, .int (iI d), .int (iI b)] H0 (fun r H1 => r = some (.int (iI (bI (tw_isBranch w d b)))) ∧ H1 = H0) (fun _ => False) := by
  refine z_enter (by decide +kernel) (Nat.le_of_ble_eq_true rfl) ?_
  intro p e s m args below meth c ls hx hb hr hml hown hts hlocks htab hnm hK hH hl
  subst hH
  have hAn : ∀ q, s.heap.size ≤ q → zN s.heap q := fun _ h => h
  have hS : va_S (zN s.heap) s.heap s.heap [] := va_S.rf
  have hl : lv_has ls 3 [(0, .ref t.1), (1, .int (iI d)), (2, .int (iI b))] := hl
  refine lv_aload_n hx hb dX4_isBranch_0 rfl (lv_at hl 0 rfl) ?_
  refine lv_iload_n hx hb dX4_isBranch_1 rfl (lv_at hl 1 rfl) ?_
  refine z_callp (vx_runV (As := [.int (iI d)]) (rest := []) ⟨hx, hb, hml, hown, hts⟩ (tc_isDocument l hT (d := d) (by first | assumption | exact ⟨by omega, by omega⟩ | omega) (by first | assumption | exact ⟨by omega, by omega⟩ | omega)) (cwV 1 hts (lw_V q2412 q2414 qs16 q49 q2415) rfl rfl rfl hd_X4_isDocument ⟨Nat.le_of_ble_eq_true rfl, Nat.le_of_ble_eq_true rfl⟩) (z_preV hK hS (zN_le hAn hS) hT.1 rfl rfl) rfl rfl hl.1 rfl (lv_room (Nat.le_of_ble_eq_true rfl)) dX4_isBranch_2 ⟨Nat.le_of_ble_eq_true rfl, Nat.le_of_ble_eq_true rfl⟩) hS (zN_le hAn hS) rfl rfl (fun locs hS => ?_)
  refine z_join (pc2 := 34) (nL := 3) (lv := [(0, .ref t.1), (1, .int (iI d)), (2, .int (iI b))]) (st2 := [.int (iI (bI ((tw_isDocument w d) && (tw_lies b 0 (w (5 + 32 * d + 1) - 1)))))]) hS (fun J_1 => ?_) (fun locs ls hS hl => ?_)
  · refine z_ifb_eq (b := tw_isDocument w d) (tgt := 33) hx hb dX4_isBranch_5 (by decide) (fun c_2 => ?_) (fun c_2 => ?_)
    · refine lv_iconst (v := iI 0) hx hb dX4_isBranch_33 rfl ?_
      refine z_top (x := 0) (y := bI ((tw_isDocument w d) && (tw_lies b 0 (w (5 + 32 * d + 1) - 1)))) (by simp [bI, c_2]) ?_
      exact J_1 _ ls hS (lv_sub hl [0, 1, 2] rfl)
    · have hd := tw_isDocument_iff.mp c_2
      have hb1 := hB d hd.1 hd.2
      refine lv_iload_n hx hb dX4_isBranch_8 rfl (lv_at hl 2 rfl) ?_
      refine lv_iconst (v := iI 0) hx hb dX4_isBranch_9 rfl ?_
      refine lv_aload_n hx hb dX4_isBranch_10 rfl (lv_at hl 0 rfl) ?_
      refine z_get (k := 0) hx hb hts in_X4 hown hK hT.1 rfl (by decide) q2331 rfl (v := .ref t.2.1) rfl dX4_isBranch_11 ?_
      refine lv_iload_n hx hb dX4_isBranch_14 rfl (lv_at hl 1 rfl) ?_
      refine z_callp (vx_runS (As := [.int (iI d)]) (rest := [.ref t.2.1, .int (iI 0), .int (iI b)]) ⟨hx, hb, hml, hown, hts⟩ (tc_doc l (d := d)) (va_cwS 1 hts (lw_S q2395 q2396 q49 q2397) rfl rfl rfl hn_X4_doc ⟨Nat.le_of_ble_eq_true rfl, Nat.le_of_ble_eq_true rfl⟩) (z_preS hK hS (zN_le hAn hS)) rfl rfl hl.1 rfl (lv_room (Nat.le_of_ble_eq_true rfl)) dX4_isBranch_15 ⟨Nat.le_of_ble_eq_true rfl, Nat.le_of_ble_eq_true rfl⟩) hS (zN_le hAn hS) rfl rfl (fun locs hS => ?_)
      refine lv_iconst (v := iI 1) hx hb dX4_isBranch_18 rfl ?_
      refine z_iadd (x := 5 + 32 * d) (y := 1) hx hb dX4_isBranch_19 ?_
      refine z_ildZ (i := 5 + 32 * d + 1) (f := w) hx hb hK hT.2.1 ⟨by omega, by omega⟩ (by decide) dX4_isBranch_20 ?_
      have r_3 : inR (w (5 + 32 * d + 1)) := hT.2.2.2.2.2.2.1 (5 + 32 * d + 1)
      refine lv_iconst (v := iI 1) hx hb dX4_isBranch_21 rfl ?_
      refine z_isub (x := w (5 + 32 * d + 1)) (y := 1) hx hb dX4_isBranch_22 ?_
      refine z_callp (vx_runS (As := [.int (iI b), .int (iI 0), .int (iI (w (5 + 32 * d + 1) - 1))]) (rest := []) ⟨hx, hb, hml, hown, hts⟩ (tc_lies l (v := b) (low := 0) (high := w (5 + 32 * d + 1) - 1) (by first | assumption | exact ⟨by omega, by omega⟩ | omega) (by first | assumption | exact ⟨by omega, by omega⟩ | omega) (by first | assumption | exact ⟨by omega, by omega⟩ | omega)) (va_cwS 3 hts (lw_S q2365 q2366 q49 q2367) rfl rfl rfl hn_X4_lies ⟨Nat.le_of_ble_eq_true rfl, Nat.le_of_ble_eq_true rfl⟩) (z_preS hK hS (zN_le hAn hS)) rfl rfl hl.1 rfl (lv_room (Nat.le_of_ble_eq_true rfl)) dX4_isBranch_23 ⟨Nat.le_of_ble_eq_true rfl, Nat.le_of_ble_eq_true rfl⟩) hS (zN_le hAn hS) rfl rfl (fun locs hS => ?_)
      refine z_ifb_eq (b := tw_lies b 0 (w (5 + 32 * d + 1) - 1)) (tgt := 33) hx hb dX4_isBranch_26 (by decide) (fun c_4 => ?_) (fun c_4 => ?_)
      · refine lv_iconst (v := iI 0) hx hb dX4_isBranch_33 rfl ?_
        refine z_top (x := 0) (y := bI ((tw_isDocument w d) && (tw_lies b 0 (w (5 + 32 * d + 1) - 1)))) (by simp [bI, c_2, c_4]) ?_
        exact J_1 _ ls hS (lv_sub hl [0, 1, 2] rfl)
      · refine lv_iconst (v := iI 1) hx hb dX4_isBranch_29 rfl ?_
        refine lv_goto (tgt := 34) hx hb dX4_isBranch_30 (by decide) ?_
        refine z_top (x := 1) (y := bI ((tw_isDocument w d) && (tw_lies b 0 (w (5 + 32 * d + 1) - 1)))) (by simp [bI, c_2, c_4]) ?_
        exact J_1 _ ls hS (lv_sub hl [0, 1, 2] rfl)
  · exact z_iret hx hb hr (z_nar _) hlocks hS ⟨rfl, rfl⟩ (Nat.le_of_ble_eq_true rfl) (Nat.le_of_ble_eq_true rfl) dX4_isBranch_34
theorem tw_isBranch_iff {w : Int → Int} {d b : Int} : tw_isBranch w d b = true ↔ (0 ≤ d ∧ d < w 2) ∧ 0 ≤ b ∧ b < w (5 + 32 * d + 1) := by unfold tw_isBranch; rw [Bool.and_eq_true, tw_isDocument_iff, tw_lies_iff]; omega
def tw_isVersion (w : Int → Int) (v : Int) : Bool := (tw_lies v 0 (w 3 - 1)) && (decide (w (261 + 9 * v + 8) = 1))
theorem hn_X4_isVersion : yX4_isVersion.cls ≠ "java/lang/invoke/MethodHandle" ∧ yX4_isVersion.cls ≠ "java/lang/invoke/VarHandle" ∧ (parseMethodDescriptor yX4_isVersion.desc).map (fun d => d.parameters.length) = some 1 := by decide +kernel
theorem hd_X4_isVersion : yX4_isVersion.cls = "CheckoutDeskModel" ∧ yX4_isVersion.cls ≠ "java/lang/invoke/MethodHandle" ∧ yX4_isVersion.cls ≠ "java/lang/invoke/VarHandle" ∧ (parseMethodDescriptor yX4_isVersion.desc).map (fun d => d.parameters.length) = some 1 := ⟨rfl, hn_X4_isVersion⟩
abbrev rm_X4_isVersion : Room := { frames := 2, cells := 0, slots := 0, locals := 38 }
set_option maxHeartbeats 4000000 in
theorem tc_isVersion (l : Launch) {G : zG} {t : zTau} {w kp lg hr : Int → Int} {ev rd th : Int} {H0 : Heap} (hT : zT G t w kp lg hr ev rd th H0) {v : Int} (hv : inR v) (hV : tV w) : zM l yX4_isVersion (ws_ yX4_isVersion cX4_isVersion 2 (some .boolean)) rm_X4_isVersion G (zN H0) [.ref t.1, .int (iI v)] H0 (fun r H1 => r = some (.int (iI (bI (tw_isVersion w v)))) ∧ H1 = H0) (fun _ => False) := by
  refine z_enter (by decide +kernel) (Nat.le_of_ble_eq_true rfl) ?_
  intro p e s m args below meth c ls hx hb hr hml hown hts hlocks htab hnm hK hH hl
  subst hH
  have hAn : ∀ q, s.heap.size ≤ q → zN s.heap q := fun _ h => h
  have hS : va_S (zN s.heap) s.heap s.heap [] := va_S.rf
  have hl : lv_has ls 2 [(0, .ref t.1), (1, .int (iI v))] := hl
  refine lv_iload_n hx hb dX4_isVersion_0 rfl (lv_at hl 1 rfl) ?_
  refine lv_iconst (v := iI 0) hx hb dX4_isVersion_1 rfl ?_
  refine lv_aload_n hx hb dX4_isVersion_2 rfl (lv_at hl 0 rfl) ?_
  refine z_get (k := 0) hx hb hts in_X4 hown hK hT.1 rfl (by decide) q2331 rfl (v := .ref t.2.1) rfl dX4_isVersion_3 ?_
  refine lv_iconst (v := iI 3) hx hb dX4_isVersion_6 rfl ?_
  refine z_ildZ (i := 3) (f := w) hx hb hK hT.2.1 ⟨by omega, by omega⟩ (by decide) dX4_isVersion_7 ?_
  have r_1 : inR (w 3) := hT.2.2.2.2.2.2.1 3
  refine lv_iconst (v := iI 1) hx hb dX4_isVersion_8 rfl ?_
  refine z_isub (x := w 3) (y := 1) hx hb dX4_isVersion_9 ?_
  refine z_callp (vx_runS (As := [.int (iI v), .int (iI 0), .int (iI (w 3 - 1))]) (rest := []) ⟨hx, hb, hml, hown, hts⟩ (tc_lies l (v := v) (low := 0) (high := w 3 - 1) (by first | assumption | exact ⟨by omega, by omega⟩ | omega) (by first | assumption | exact ⟨by omega, by omega⟩ | omega) (by first | assumption | exact ⟨by omega, by omega⟩ | omega)) (va_cwS 3 hts (lw_S q2365 q2366 q49 q2367) rfl rfl rfl hn_X4_lies ⟨Nat.le_of_ble_eq_true rfl, Nat.le_of_ble_eq_true rfl⟩) (z_preS hK hS (zN_le hAn hS)) rfl rfl hl.1 rfl (lv_room (Nat.le_of_ble_eq_true rfl)) dX4_isVersion_10 ⟨Nat.le_of_ble_eq_true rfl, Nat.le_of_ble_eq_true rfl⟩) hS (zN_le hAn hS) rfl rfl (fun locs hS => ?_)
  refine z_join (pc2 := 37) (nL := 2) (lv := [(0, .ref t.1), (1, .int (iI v))]) (st2 := [.int (iI (bI ((tw_lies v 0 (w 3 - 1)) && (decide (w (261 + 9 * v + 8) = 1)))))]) hS (fun J_2 => ?_) (fun locs ls hS hl => ?_)
  · refine z_ifb_eq (b := tw_lies v 0 (w 3 - 1)) (tgt := 36) hx hb dX4_isVersion_13 (by decide) (fun c_3 => ?_) (fun c_3 => ?_)
    · refine lv_iconst (v := iI 0) hx hb dX4_isVersion_36 rfl ?_
      refine z_top (x := 0) (y := bI ((tw_lies v 0 (w 3 - 1)) && (decide (w (261 + 9 * v + 8) = 1)))) (by simp [bI, c_3]) ?_
      exact J_2 _ ls hS (lv_sub hl [0, 1] rfl)
    · have hv0 := tw_lies_iff.mp c_3
      refine lv_aload_n hx hb dX4_isVersion_16 rfl (lv_at hl 0 rfl) ?_
      refine z_get (k := 0) hx hb hts in_X4 hown hK hT.1 rfl (by decide) q2331 rfl (v := .ref t.2.1) rfl dX4_isVersion_17 ?_
      refine lv_iload_n hx hb dX4_isVersion_20 rfl (lv_at hl 1 rfl) ?_
      refine z_callp (vx_runS (As := [.int (iI v)]) (rest := [.ref t.2.1]) ⟨hx, hb, hml, hown, hts⟩ (tc_ver l (v := v)) (va_cwS 1 hts (lw_S q2405 q2406 q49 q2407) rfl rfl rfl hn_X4_ver ⟨Nat.le_of_ble_eq_true rfl, Nat.le_of_ble_eq_true rfl⟩) (z_preS hK hS (zN_le hAn hS)) rfl rfl hl.1 rfl (lv_room (Nat.le_of_ble_eq_true rfl)) dX4_isVersion_21 ⟨Nat.le_of_ble_eq_true rfl, Nat.le_of_ble_eq_true rfl⟩) hS (zN_le hAn hS) rfl rfl (fun locs hS => ?_)
      refine lv_bipush (v := iI 8) hx hb dX4_isVersion_24 (by decide) ?_
      refine z_iadd (x := 261 + 9 * v) (y := 8) hx hb dX4_isVersion_26 ?_
      refine z_ildZ (i := 261 + 9 * v + 8) (f := w) hx hb hK hT.2.1 ⟨by omega, by omega⟩ (by decide) dX4_isVersion_27 ?_
      have r_4 : inR (w (261 + 9 * v + 8)) := hT.2.2.2.2.2.2.1 (261 + 9 * v + 8)
      refine lv_iconst (v := iI 1) hx hb dX4_isVersion_28 rfl ?_
      refine z_icmp_ne (x := w (261 + 9 * v + 8)) (y := 1) (tgt := 36) hx hb (by first | assumption | exact ⟨by omega, by omega⟩) (by decide) dX4_isVersion_29 (by decide) (fun c_5 => ?_) (fun c_5 => ?_)
      · refine lv_iconst (v := iI 0) hx hb dX4_isVersion_36 rfl ?_
        refine z_top (x := 0) (y := bI ((tw_lies v 0 (w 3 - 1)) && (decide (w (261 + 9 * v + 8) = 1)))) (by simp [bI, c_3, c_5]) ?_
        exact J_2 _ ls hS (lv_sub hl [0, 1] rfl)
      · refine lv_iconst (v := iI 1) hx hb dX4_isVersion_32 rfl ?_
        refine lv_goto (tgt := 37) hx hb dX4_isVersion_33 (by decide) ?_
        refine z_top (x := 1) (y := bI ((tw_lies v 0 (w 3 - 1)) && (decide (w (261 + 9 * v + 8) = 1)))) (by simp [bI, c_3, c_5]) ?_
        exact J_2 _ ls hS (lv_sub hl [0, 1] rfl)
  · exact z_iret hx hb hr (z_nar _) hlocks hS ⟨rfl, rfl⟩ (Nat.le_of_ble_eq_true rfl) (Nat.le_of_ble_eq_true rfl) dX4_isVersion_37
theorem tw_isVersion_iff {w : Int → Int} {v : Int} : tw_isVersion w v = true ↔ (0 ≤ v ∧ v < w 3) ∧ w (261 + 9 * v + 8) = 1 := by unfold tw_isVersion; rw [Bool.and_eq_true, tw_lies_iff, decide_eq_true_iff]; omega
def tw_isLink (w : Int → Int) (k : Int) : Bool := tw_lies k 0 (w 4 - 1)
theorem hn_X4_isLink : yX4_isLink.cls ≠ "java/lang/invoke/MethodHandle" ∧ yX4_isLink.cls ≠ "java/lang/invoke/VarHandle" ∧ (parseMethodDescriptor yX4_isLink.desc).map (fun d => d.parameters.length) = some 1 := by decide +kernel
theorem hd_X4_isLink : yX4_isLink.cls = "CheckoutDeskModel" ∧ yX4_isLink.cls ≠ "java/lang/invoke/MethodHandle" ∧ yX4_isLink.cls ≠ "java/lang/invoke/VarHandle" ∧ (parseMethodDescriptor yX4_isLink.desc).map (fun d => d.parameters.length) = some 1 := ⟨rfl, hn_X4_isLink⟩
abbrev rm_X4_isLink : Room := { frames := 2, cells := 0, slots := 0, locals := 38 }
set_option maxHeartbeats 4000000 in
theorem tc_isLink (l : Launch) {G : zG} {t : zTau} {w kp lg hr : Int → Int} {ev rd th : Int} {H0 : Heap} (hT : zT G t w kp lg hr ev rd th H0) {k : Int} (hk : inR k) (hL : tL w) : zM l yX4_isLink (ws_ yX4_isLink cX4_isLink 2 (some .boolean)) rm_X4_isLink G (zN H0) [.ref t.1, .int (iI k)] H0 (fun r H1 => r = some (.int (iI (bI (tw_isLink w k)))) ∧ H1 = H0) (fun _ => False) := by
  refine z_enter (by decide +kernel) (Nat.le_of_ble_eq_true rfl) ?_
  intro p e s m args below meth c ls hx hb hr hml hown hts hlocks htab hnm hK hH hl
  subst hH
  have hAn : ∀ q, s.heap.size ≤ q → zN s.heap q := fun _ h => h
  have hS : va_S (zN s.heap) s.heap s.heap [] := va_S.rf
  have hl : lv_has ls 2 [(0, .ref t.1), (1, .int (iI k))] := hl
  refine lv_iload_n hx hb dX4_isLink_0 rfl (lv_at hl 1 rfl) ?_
  refine lv_iconst (v := iI 0) hx hb dX4_isLink_1 rfl ?_
  refine lv_aload_n hx hb dX4_isLink_2 rfl (lv_at hl 0 rfl) ?_
  refine z_get (k := 0) hx hb hts in_X4 hown hK hT.1 rfl (by decide) q2331 rfl (v := .ref t.2.1) rfl dX4_isLink_3 ?_
  refine lv_iconst (v := iI 4) hx hb dX4_isLink_6 rfl ?_
  refine z_ildZ (i := 4) (f := w) hx hb hK hT.2.1 ⟨by omega, by omega⟩ (by decide) dX4_isLink_7 ?_
  have r_1 : inR (w 4) := hT.2.2.2.2.2.2.1 4
  refine lv_iconst (v := iI 1) hx hb dX4_isLink_8 rfl ?_
  refine z_isub (x := w 4) (y := 1) hx hb dX4_isLink_9 ?_
  refine z_callp (vx_runS (As := [.int (iI k), .int (iI 0), .int (iI (w 4 - 1))]) (rest := []) ⟨hx, hb, hml, hown, hts⟩ (tc_lies l (v := k) (low := 0) (high := w 4 - 1) (by first | assumption | exact ⟨by omega, by omega⟩ | omega) (by first | assumption | exact ⟨by omega, by omega⟩ | omega) (by first | assumption | exact ⟨by omega, by omega⟩ | omega)) (va_cwS 3 hts (lw_S q2365 q2366 q49 q2367) rfl rfl rfl hn_X4_lies ⟨Nat.le_of_ble_eq_true rfl, Nat.le_of_ble_eq_true rfl⟩) (z_preS hK hS (zN_le hAn hS)) rfl rfl hl.1 rfl (lv_room (Nat.le_of_ble_eq_true rfl)) dX4_isLink_10 ⟨Nat.le_of_ble_eq_true rfl, Nat.le_of_ble_eq_true rfl⟩) hS (zN_le hAn hS) rfl rfl (fun locs hS => ?_)
  exact z_iret hx hb hr (z_nar _) hlocks hS ⟨rfl, rfl⟩ (Nat.le_of_ble_eq_true rfl) (Nat.le_of_ble_eq_true rfl) dX4_isLink_13
theorem tw_isLink_iff {w : Int → Int} {k : Int} : tw_isLink w k = true ↔ 0 ≤ k ∧ k < w 4 := by unfold tw_isLink; rw [tw_lies_iff]; omega
def tw_right (w : Int → Int) (p_ d : Int) : Int := if w (5 + 32 * d) = p_ then 2 else w (5 + 32 * d + 2 + p_)
theorem hn_X4_right : yX4_right.cls ≠ "java/lang/invoke/MethodHandle" ∧ yX4_right.cls ≠ "java/lang/invoke/VarHandle" ∧ (parseMethodDescriptor yX4_right.desc).map (fun d => d.parameters.length) = some 2 := by decide +kernel
theorem hd_X4_right : yX4_right.cls = "CheckoutDeskModel" ∧ yX4_right.cls ≠ "java/lang/invoke/MethodHandle" ∧ yX4_right.cls ≠ "java/lang/invoke/VarHandle" ∧ (parseMethodDescriptor yX4_right.desc).map (fun d => d.parameters.length) = some 2 := ⟨rfl, hn_X4_right⟩
abbrev rm_X4_right : Room := { frames := 2, cells := 0, slots := 0, locals := 36 }
set_option maxHeartbeats 4000000 in
theorem tc_right (l : Launch) {G : zG} {t : zTau} {w kp lg hr : Int → Int} {ev rd th : Int} {H0 : Heap} (hT : zT G t w kp lg hr ev rd th H0) {p_ d : Int} (hp6 : 0 ≤ p_ ∧ p_ < 6) (hd8 : 0 ≤ d ∧ d < 8) : zM l yX4_right (ws_ yX4_right cX4_right 3 (some .int)) rm_X4_right G (zN H0) [.ref t.1, .int (iI p_), .int (iI d)] H0 (fun r H1 => r = some (.int (iI (tw_right w p_ d))) ∧ H1 = H0) (fun _ => False) := by
  refine z_enter (by decide +kernel) (Nat.le_of_ble_eq_true rfl) ?_
  intro p e s m args below meth c ls hx hb hr hml hown hts hlocks htab hnm hK hH hl
  subst hH
  have hAn : ∀ q, s.heap.size ≤ q → zN s.heap q := fun _ h => h
  have hS : va_S (zN s.heap) s.heap s.heap [] := va_S.rf
  have hl : lv_has ls 3 [(0, .ref t.1), (1, .int (iI p_)), (2, .int (iI d))] := hl
  refine lv_aload_n hx hb dX4_right_0 rfl (lv_at hl 0 rfl) ?_
  refine z_get (k := 0) hx hb hts in_X4 hown hK hT.1 rfl (by decide) q2331 rfl (v := .ref t.2.1) rfl dX4_right_1 ?_
  refine lv_iload_n hx hb dX4_right_4 rfl (lv_at hl 2 rfl) ?_
  refine z_callp (vx_runS (As := [.int (iI d)]) (rest := [.ref t.2.1]) ⟨hx, hb, hml, hown, hts⟩ (tc_doc l (d := d)) (va_cwS 1 hts (lw_S q2395 q2396 q49 q2397) rfl rfl rfl hn_X4_doc ⟨Nat.le_of_ble_eq_true rfl, Nat.le_of_ble_eq_true rfl⟩) (z_preS hK hS (zN_le hAn hS)) rfl rfl hl.1 rfl (lv_room (Nat.le_of_ble_eq_true rfl)) dX4_right_5 ⟨Nat.le_of_ble_eq_true rfl, Nat.le_of_ble_eq_true rfl⟩) hS (zN_le hAn hS) rfl rfl (fun locs hS => ?_)
  refine lv_iconst (v := iI 0) hx hb dX4_right_8 rfl ?_
  refine z_iadd0 hx hb dX4_right_9 ?_
  refine z_ildZ (i := 5 + 32 * d) (f := w) hx hb hK hT.2.1 ⟨by omega, by omega⟩ (by decide) dX4_right_10 ?_
  have r_1 : inR (w (5 + 32 * d)) := hT.2.2.2.2.2.2.1 (5 + 32 * d)
  refine lv_iload_n hx hb dX4_right_11 rfl (lv_at hl 1 rfl) ?_
  refine z_join (pc2 := 32) (nL := 3) (lv := [(0, .ref t.1), (1, .int (iI p_)), (2, .int (iI d))]) (st2 := [.int (iI (if w (5 + 32 * d) = p_ then 2 else w (5 + 32 * d + 2 + p_)))]) hS (fun J_2 => ?_) (fun locs ls hS hl => ?_)
  · refine z_icmp_ne (x := w (5 + 32 * d)) (y := p_) (tgt := 19) hx hb (by first | assumption | exact ⟨by omega, by omega⟩) (by first | assumption | exact ⟨by omega, by omega⟩) dX4_right_12 (by decide) (fun c_3 => ?_) (fun c_3 => ?_)
    · refine lv_aload_n hx hb dX4_right_19 rfl (lv_at hl 0 rfl) ?_
      refine z_get (k := 0) hx hb hts in_X4 hown hK hT.1 rfl (by decide) q2331 rfl (v := .ref t.2.1) rfl dX4_right_20 ?_
      refine lv_iload_n hx hb dX4_right_23 rfl (lv_at hl 2 rfl) ?_
      refine z_callp (vx_runS (As := [.int (iI d)]) (rest := [.ref t.2.1]) ⟨hx, hb, hml, hown, hts⟩ (tc_doc l (d := d)) (va_cwS 1 hts (lw_S q2395 q2396 q49 q2397) rfl rfl rfl hn_X4_doc ⟨Nat.le_of_ble_eq_true rfl, Nat.le_of_ble_eq_true rfl⟩) (z_preS hK hS (zN_le hAn hS)) rfl rfl hl.1 rfl (lv_room (Nat.le_of_ble_eq_true rfl)) dX4_right_24 ⟨Nat.le_of_ble_eq_true rfl, Nat.le_of_ble_eq_true rfl⟩) hS (zN_le hAn hS) rfl rfl (fun locs hS => ?_)
      refine lv_iconst (v := iI 2) hx hb dX4_right_27 rfl ?_
      refine z_iadd (x := 5 + 32 * d) (y := 2) hx hb dX4_right_28 ?_
      refine lv_iload_n hx hb dX4_right_29 rfl (lv_at hl 1 rfl) ?_
      refine z_iadd (x := 5 + 32 * d + 2) (y := p_) hx hb dX4_right_30 ?_
      refine z_ildZ (i := 5 + 32 * d + 2 + p_) (f := w) hx hb hK hT.2.1 ⟨by omega, by omega⟩ (by decide) dX4_right_31 ?_
      have r_4 : inR (w (5 + 32 * d + 2 + p_)) := hT.2.2.2.2.2.2.1 (5 + 32 * d + 2 + p_)
      refine z_top (x := w (5 + 32 * d + 2 + p_)) (y := if w (5 + 32 * d) = p_ then 2 else w (5 + 32 * d + 2 + p_)) (by simp [bI, c_3]) ?_
      exact J_2 _ ls hS (lv_sub hl [0, 1, 2] rfl)
    · refine lv_iconst (v := iI 2) hx hb dX4_right_15 rfl ?_
      refine lv_goto (tgt := 32) hx hb dX4_right_16 (by decide) ?_
      refine z_top (x := 2) (y := if w (5 + 32 * d) = p_ then 2 else w (5 + 32 * d + 2 + p_)) (by simp [bI, c_3]) ?_
      exact J_2 _ ls hS (lv_sub hl [0, 1, 2] rfl)
  · exact z_iret hx hb hr rfl hlocks hS ⟨rfl, rfl⟩ (Nat.le_of_ble_eq_true rfl) (Nat.le_of_ble_eq_true rfl) dX4_right_32
theorem tw_right_R {w : Int → Int} (hw : ∀ k, inR (w k)) (p d : Int) : inR (tw_right w p d) := by unfold tw_right; split; decide; exact hw _
def tw_writes (w : Int → Int) (p_ d : Int) : Bool := decide (tw_right w p_ d = 2)
theorem hn_X4_writes : yX4_writes.cls ≠ "java/lang/invoke/MethodHandle" ∧ yX4_writes.cls ≠ "java/lang/invoke/VarHandle" ∧ (parseMethodDescriptor yX4_writes.desc).map (fun d => d.parameters.length) = some 2 := by decide +kernel
theorem hd_X4_writes : yX4_writes.cls = "CheckoutDeskModel" ∧ yX4_writes.cls ≠ "java/lang/invoke/MethodHandle" ∧ yX4_writes.cls ≠ "java/lang/invoke/VarHandle" ∧ (parseMethodDescriptor yX4_writes.desc).map (fun d => d.parameters.length) = some 2 := ⟨rfl, hn_X4_writes⟩
abbrev rm_X4_writes : Room := { frames := 3, cells := 0, slots := 0, locals := 58 }
set_option maxHeartbeats 4000000 in
theorem tc_writes (l : Launch) {G : zG} {t : zTau} {w kp lg hr : Int → Int} {ev rd th : Int} {H0 : Heap} (hT : zT G t w kp lg hr ev rd th H0) {p_ d : Int} (hp6 : 0 ≤ p_ ∧ p_ < 6) (hd8 : 0 ≤ d ∧ d < 8) : zM l yX4_writes (ws_ yX4_writes cX4_writes 3 (some .boolean)) rm_X4_writes G (zN H0) [.ref t.1, .int (iI p_), .int (iI d)] H0 (fun r H1 => r = some (.int (iI (bI (tw_writes w p_ d)))) ∧ H1 = H0) (fun _ => False) := by
  refine z_enter (by decide +kernel) (Nat.le_of_ble_eq_true rfl) ?_
  intro p e s m args below meth c ls hx hb hr hml hown hts hlocks htab hnm hK hH hl
  subst hH
  have hAn : ∀ q, s.heap.size ≤ q → zN s.heap q := fun _ h => h
  have hS : va_S (zN s.heap) s.heap s.heap [] := va_S.rf
  have hl : lv_has ls 3 [(0, .ref t.1), (1, .int (iI p_)), (2, .int (iI d))] := hl
  refine lv_aload_n hx hb dX4_writes_0 rfl (lv_at hl 0 rfl) ?_
  refine lv_iload_n hx hb dX4_writes_1 rfl (lv_at hl 1 rfl) ?_
  refine lv_iload_n hx hb dX4_writes_2 rfl (lv_at hl 2 rfl) ?_
  refine z_callp (vx_runV (As := [.int (iI p_), .int (iI d)]) (rest := []) ⟨hx, hb, hml, hown, hts⟩ (tc_right l hT (p_ := p_) (d := d) (by first | assumption | exact ⟨by omega, by omega⟩ | omega) (by first | assumption | exact ⟨by omega, by omega⟩ | omega)) (cwV 2 hts (lw_V q2432 q2434 qs20 q49 q2435) rfl rfl rfl hd_X4_right ⟨Nat.le_of_ble_eq_true rfl, Nat.le_of_ble_eq_true rfl⟩) (z_preV hK hS (zN_le hAn hS) hT.1 rfl rfl) rfl rfl hl.1 rfl (lv_room (Nat.le_of_ble_eq_true rfl)) dX4_writes_3 ⟨Nat.le_of_ble_eq_true rfl, Nat.le_of_ble_eq_true rfl⟩) hS (zN_le hAn hS) rfl rfl (fun locs hS => ?_)
  refine lv_iconst (v := iI 2) hx hb dX4_writes_6 rfl ?_
  refine z_join (pc2 := 15) (nL := 3) (lv := [(0, .ref t.1), (1, .int (iI p_)), (2, .int (iI d))]) (st2 := [.int (iI (bI (decide (tw_right w p_ d = 2))))]) hS (fun J_1 => ?_) (fun locs ls hS hl => ?_)
  · refine z_icmp_ne (x := tw_right w p_ d) (y := 2) (tgt := 14) hx hb (tw_right_R hT.2.2.2.2.2.2.1 _ _) (by decide) dX4_writes_7 (by decide) (fun c_2 => ?_) (fun c_2 => ?_)
    · refine lv_iconst (v := iI 0) hx hb dX4_writes_14 rfl ?_
      refine z_top (x := 0) (y := bI (decide (tw_right w p_ d = 2))) (by simp [bI, c_2]) ?_
      exact J_1 _ ls hS (lv_sub hl [0, 1, 2] rfl)
    · refine lv_iconst (v := iI 1) hx hb dX4_writes_10 rfl ?_
      refine lv_goto (tgt := 15) hx hb dX4_writes_11 (by decide) ?_
      refine z_top (x := 1) (y := bI (decide (tw_right w p_ d = 2))) (by simp [bI, c_2]) ?_
      exact J_1 _ ls hS (lv_sub hl [0, 1, 2] rfl)
  · exact z_iret hx hb hr (z_nar _) hlocks hS ⟨rfl, rfl⟩ (Nat.le_of_ble_eq_true rfl) (Nat.le_of_ble_eq_true rfl) dX4_writes_15
def tw_owns (w : Int → Int) (p_ d : Int) : Bool := decide (w (5 + 32 * d) = p_)
theorem hn_X4_owns : yX4_owns.cls ≠ "java/lang/invoke/MethodHandle" ∧ yX4_owns.cls ≠ "java/lang/invoke/VarHandle" ∧ (parseMethodDescriptor yX4_owns.desc).map (fun d => d.parameters.length) = some 2 := by decide +kernel
theorem hd_X4_owns : yX4_owns.cls = "CheckoutDeskModel" ∧ yX4_owns.cls ≠ "java/lang/invoke/MethodHandle" ∧ yX4_owns.cls ≠ "java/lang/invoke/VarHandle" ∧ (parseMethodDescriptor yX4_owns.desc).map (fun d => d.parameters.length) = some 2 := ⟨rfl, hn_X4_owns⟩
abbrev rm_X4_owns : Room := { frames := 2, cells := 0, slots := 0, locals := 36 }
set_option maxHeartbeats 4000000 in
theorem tc_owns (l : Launch) {G : zG} {t : zTau} {w kp lg hr : Int → Int} {ev rd th : Int} {H0 : Heap} (hT : zT G t w kp lg hr ev rd th H0) {p_ d : Int} (hp6 : 0 ≤ p_ ∧ p_ < 6) (hd8 : 0 ≤ d ∧ d < 8) : zM l yX4_owns (ws_ yX4_owns cX4_owns 3 (some .boolean)) rm_X4_owns G (zN H0) [.ref t.1, .int (iI p_), .int (iI d)] H0 (fun r H1 => r = some (.int (iI (bI (tw_owns w p_ d)))) ∧ H1 = H0) (fun _ => False) := by
  refine z_enter (by decide +kernel) (Nat.le_of_ble_eq_true rfl) ?_
  intro p e s m args below meth c ls hx hb hr hml hown hts hlocks htab hnm hK hH hl
  subst hH
  have hAn : ∀ q, s.heap.size ≤ q → zN s.heap q := fun _ h => h
  have hS : va_S (zN s.heap) s.heap s.heap [] := va_S.rf
  have hl : lv_has ls 3 [(0, .ref t.1), (1, .int (iI p_)), (2, .int (iI d))] := hl
  refine lv_aload_n hx hb dX4_owns_0 rfl (lv_at hl 0 rfl) ?_
  refine z_get (k := 0) hx hb hts in_X4 hown hK hT.1 rfl (by decide) q2331 rfl (v := .ref t.2.1) rfl dX4_owns_1 ?_
  refine lv_iload_n hx hb dX4_owns_4 rfl (lv_at hl 2 rfl) ?_
  refine z_callp (vx_runS (As := [.int (iI d)]) (rest := [.ref t.2.1]) ⟨hx, hb, hml, hown, hts⟩ (tc_doc l (d := d)) (va_cwS 1 hts (lw_S q2395 q2396 q49 q2397) rfl rfl rfl hn_X4_doc ⟨Nat.le_of_ble_eq_true rfl, Nat.le_of_ble_eq_true rfl⟩) (z_preS hK hS (zN_le hAn hS)) rfl rfl hl.1 rfl (lv_room (Nat.le_of_ble_eq_true rfl)) dX4_owns_5 ⟨Nat.le_of_ble_eq_true rfl, Nat.le_of_ble_eq_true rfl⟩) hS (zN_le hAn hS) rfl rfl (fun locs hS => ?_)
  refine lv_iconst (v := iI 0) hx hb dX4_owns_8 rfl ?_
  refine z_iadd0 hx hb dX4_owns_9 ?_
  refine z_ildZ (i := 5 + 32 * d) (f := w) hx hb hK hT.2.1 ⟨by omega, by omega⟩ (by decide) dX4_owns_10 ?_
  have r_1 : inR (w (5 + 32 * d)) := hT.2.2.2.2.2.2.1 (5 + 32 * d)
  refine lv_iload_n hx hb dX4_owns_11 rfl (lv_at hl 1 rfl) ?_
  refine z_join (pc2 := 20) (nL := 3) (lv := [(0, .ref t.1), (1, .int (iI p_)), (2, .int (iI d))]) (st2 := [.int (iI (bI (decide (w (5 + 32 * d) = p_))))]) hS (fun J_2 => ?_) (fun locs ls hS hl => ?_)
  · refine z_icmp_ne (x := w (5 + 32 * d)) (y := p_) (tgt := 19) hx hb (by first | assumption | exact ⟨by omega, by omega⟩) (by first | assumption | exact ⟨by omega, by omega⟩) dX4_owns_12 (by decide) (fun c_3 => ?_) (fun c_3 => ?_)
    · refine lv_iconst (v := iI 0) hx hb dX4_owns_19 rfl ?_
      refine z_top (x := 0) (y := bI (decide (w (5 + 32 * d) = p_))) (by simp [bI, c_3]) ?_
      exact J_2 _ ls hS (lv_sub hl [0, 1, 2] rfl)
    · refine lv_iconst (v := iI 1) hx hb dX4_owns_15 rfl ?_
      refine lv_goto (tgt := 20) hx hb dX4_owns_16 (by decide) ?_
      refine z_top (x := 1) (y := bI (decide (w (5 + 32 * d) = p_))) (by simp [bI, c_3]) ?_
      exact J_2 _ ls hS (lv_sub hl [0, 1, 2] rfl)
  · exact z_iret hx hb hr (z_nar _) hlocks hS ⟨rfl, rfl⟩ (Nat.le_of_ble_eq_true rfl) (Nat.le_of_ble_eq_true rfl) dX4_owns_20
def tw_isReleased (w : Int → Int) (v : Int) : Bool := decide (w (261 + 9 * v + 3) = 0)
theorem hn_X4_isReleased : yX4_isReleased.cls ≠ "java/lang/invoke/MethodHandle" ∧ yX4_isReleased.cls ≠ "java/lang/invoke/VarHandle" ∧ (parseMethodDescriptor yX4_isReleased.desc).map (fun d => d.parameters.length) = some 1 := by decide +kernel
theorem hd_X4_isReleased : yX4_isReleased.cls = "CheckoutDeskModel" ∧ yX4_isReleased.cls ≠ "java/lang/invoke/MethodHandle" ∧ yX4_isReleased.cls ≠ "java/lang/invoke/VarHandle" ∧ (parseMethodDescriptor yX4_isReleased.desc).map (fun d => d.parameters.length) = some 1 := ⟨rfl, hn_X4_isReleased⟩
abbrev rm_X4_isReleased : Room := { frames := 2, cells := 0, slots := 0, locals := 36 }
set_option maxHeartbeats 4000000 in
theorem tc_isReleased (l : Launch) {G : zG} {t : zTau} {w kp lg hr : Int → Int} {ev rd th : Int} {H0 : Heap} (hT : zT G t w kp lg hr ev rd th H0) {v : Int} (hv60 : 0 ≤ v ∧ v < 60) : zM l yX4_isReleased (ws_ yX4_isReleased cX4_isReleased 2 (some .boolean)) rm_X4_isReleased G (zN H0) [.ref t.1, .int (iI v)] H0 (fun r H1 => r = some (.int (iI (bI (tw_isReleased w v)))) ∧ H1 = H0) (fun _ => False) := by
  refine z_enter (by decide +kernel) (Nat.le_of_ble_eq_true rfl) ?_
  intro p e s m args below meth c ls hx hb hr hml hown hts hlocks htab hnm hK hH hl
  subst hH
  have hAn : ∀ q, s.heap.size ≤ q → zN s.heap q := fun _ h => h
  have hS : va_S (zN s.heap) s.heap s.heap [] := va_S.rf
  have hl : lv_has ls 2 [(0, .ref t.1), (1, .int (iI v))] := hl
  refine lv_aload_n hx hb dX4_isReleased_0 rfl (lv_at hl 0 rfl) ?_
  refine z_get (k := 0) hx hb hts in_X4 hown hK hT.1 rfl (by decide) q2331 rfl (v := .ref t.2.1) rfl dX4_isReleased_1 ?_
  refine lv_iload_n hx hb dX4_isReleased_4 rfl (lv_at hl 1 rfl) ?_
  refine z_callp (vx_runS (As := [.int (iI v)]) (rest := [.ref t.2.1]) ⟨hx, hb, hml, hown, hts⟩ (tc_ver l (v := v)) (va_cwS 1 hts (lw_S q2405 q2406 q49 q2407) rfl rfl rfl hn_X4_ver ⟨Nat.le_of_ble_eq_true rfl, Nat.le_of_ble_eq_true rfl⟩) (z_preS hK hS (zN_le hAn hS)) rfl rfl hl.1 rfl (lv_room (Nat.le_of_ble_eq_true rfl)) dX4_isReleased_5 ⟨Nat.le_of_ble_eq_true rfl, Nat.le_of_ble_eq_true rfl⟩) hS (zN_le hAn hS) rfl rfl (fun locs hS => ?_)
  refine lv_iconst (v := iI 3) hx hb dX4_isReleased_8 rfl ?_
  refine z_iadd (x := 261 + 9 * v) (y := 3) hx hb dX4_isReleased_9 ?_
  refine z_ildZ (i := 261 + 9 * v + 3) (f := w) hx hb hK hT.2.1 ⟨by omega, by omega⟩ (by decide) dX4_isReleased_10 ?_
  have r_1 : inR (w (261 + 9 * v + 3)) := hT.2.2.2.2.2.2.1 (261 + 9 * v + 3)
  refine z_join (pc2 := 19) (nL := 2) (lv := [(0, .ref t.1), (1, .int (iI v))]) (st2 := [.int (iI (bI (decide (w (261 + 9 * v + 3) = 0))))]) hS (fun J_2 => ?_) (fun locs ls hS hl => ?_)
  · refine z_if_ne (x := w (261 + 9 * v + 3)) (tgt := 18) hx hb (by first | assumption | exact ⟨by omega, by omega⟩) dX4_isReleased_11 (by decide) (fun c_3 => ?_) (fun c_3 => ?_)
    · refine lv_iconst (v := iI 0) hx hb dX4_isReleased_18 rfl ?_
      refine z_top (x := 0) (y := bI (decide (w (261 + 9 * v + 3) = 0))) (by simp [bI, c_3]) ?_
      exact J_2 _ ls hS (lv_sub hl [0, 1] rfl)
    · refine lv_iconst (v := iI 1) hx hb dX4_isReleased_14 rfl ?_
      refine lv_goto (tgt := 19) hx hb dX4_isReleased_15 (by decide) ?_
      refine z_top (x := 1) (y := bI (decide (w (261 + 9 * v + 3) = 0))) (by simp [bI, c_3]) ?_
      exact J_2 _ ls hS (lv_sub hl [0, 1] rfl)
  · exact z_iret hx hb hr (z_nar _) hlocks hS ⟨rfl, rfl⟩ (Nat.le_of_ble_eq_true rfl) (Nat.le_of_ble_eq_true rfl) dX4_isReleased_19
def tw_sees (w : Int → Int) (p_ v : Int) : Bool := (decide (tw_right w p_ (w (261 + 9 * v)) = 2)) || ((decide (tw_right w p_ (w (261 + 9 * v)) = 1)) && (tw_isReleased w v))
theorem hn_X4_sees : yX4_sees.cls ≠ "java/lang/invoke/MethodHandle" ∧ yX4_sees.cls ≠ "java/lang/invoke/VarHandle" ∧ (parseMethodDescriptor yX4_sees.desc).map (fun d => d.parameters.length) = some 2 := by decide +kernel
theorem hd_X4_sees : yX4_sees.cls = "CheckoutDeskModel" ∧ yX4_sees.cls ≠ "java/lang/invoke/MethodHandle" ∧ yX4_sees.cls ≠ "java/lang/invoke/VarHandle" ∧ (parseMethodDescriptor yX4_sees.desc).map (fun d => d.parameters.length) = some 2 := ⟨rfl, hn_X4_sees⟩
abbrev rm_X4_sees : Room := { frames := 3, cells := 0, slots := 0, locals := 58 }
set_option maxHeartbeats 4000000 in
theorem tc_sees (l : Launch) {G : zG} {t : zTau} {w kp lg hr : Int → Int} {ev rd th : Int} {H0 : Heap} (hT : zT G t w kp lg hr ev rd th H0) {p_ v : Int} (hp6 : 0 ≤ p_ ∧ p_ < 6) (hv60 : 0 ≤ v ∧ v < 60) (hd8 : 0 ≤ w (261 + 9 * v) ∧ w (261 + 9 * v) < 8) : zM l yX4_sees (ws_ yX4_sees cX4_sees 4 (some .boolean)) rm_X4_sees G (zN H0) [.ref t.1, .int (iI p_), .int (iI v)] H0 (fun r H1 => r = some (.int (iI (bI (tw_sees w p_ v)))) ∧ H1 = H0) (fun _ => False) := by
  refine z_enter (by decide +kernel) (Nat.le_of_ble_eq_true rfl) ?_
  intro p e s m args below meth c ls hx hb hr hml hown hts hlocks htab hnm hK hH hl
  subst hH
  have hAn : ∀ q, s.heap.size ≤ q → zN s.heap q := fun _ h => h
  have hS : va_S (zN s.heap) s.heap s.heap [] := va_S.rf
  have hl : lv_has ls 4 [(0, .ref t.1), (1, .int (iI p_)), (2, .int (iI v))] := hl
  refine lv_aload_n hx hb dX4_sees_0 rfl (lv_at hl 0 rfl) ?_
  refine lv_iload_n hx hb dX4_sees_1 rfl (lv_at hl 1 rfl) ?_
  refine lv_aload_n hx hb dX4_sees_2 rfl (lv_at hl 0 rfl) ?_
  refine z_get (k := 0) hx hb hts in_X4 hown hK hT.1 rfl (by decide) q2331 rfl (v := .ref t.2.1) rfl dX4_sees_3 ?_
  refine lv_iload_n hx hb dX4_sees_6 rfl (lv_at hl 2 rfl) ?_
  refine z_callp (vx_runS (As := [.int (iI v)]) (rest := [.ref t.2.1, .int (iI p_), .ref t.1]) ⟨hx, hb, hml, hown, hts⟩ (tc_ver l (v := v)) (va_cwS 1 hts (lw_S q2405 q2406 q49 q2407) rfl rfl rfl hn_X4_ver ⟨Nat.le_of_ble_eq_true rfl, Nat.le_of_ble_eq_true rfl⟩) (z_preS hK hS (zN_le hAn hS)) rfl rfl hl.1 rfl (lv_room (Nat.le_of_ble_eq_true rfl)) dX4_sees_7 ⟨Nat.le_of_ble_eq_true rfl, Nat.le_of_ble_eq_true rfl⟩) hS (zN_le hAn hS) rfl rfl (fun locs hS => ?_)
  refine lv_iconst (v := iI 0) hx hb dX4_sees_10 rfl ?_
  refine z_iadd0 hx hb dX4_sees_11 ?_
  refine z_ildZ (i := 261 + 9 * v) (f := w) hx hb hK hT.2.1 ⟨by omega, by omega⟩ (by decide) dX4_sees_12 ?_
  have r_1 : inR (w (261 + 9 * v)) := hT.2.2.2.2.2.2.1 (261 + 9 * v)
  refine z_callp (vx_runV (As := [.int (iI p_), .int (iI (w (261 + 9 * v)))]) (rest := []) ⟨hx, hb, hml, hown, hts⟩ (tc_right l hT (p_ := p_) (d := w (261 + 9 * v)) (by first | assumption | exact ⟨by omega, by omega⟩ | omega) (by first | assumption | exact ⟨by omega, by omega⟩ | omega)) (cwV 2 hts (lw_V q2432 q2434 qs20 q49 q2435) rfl rfl rfl hd_X4_right ⟨Nat.le_of_ble_eq_true rfl, Nat.le_of_ble_eq_true rfl⟩) (z_preV hK hS (zN_le hAn hS) hT.1 rfl rfl) rfl rfl hl.1 rfl (lv_room (Nat.le_of_ble_eq_true rfl)) dX4_sees_13 ⟨Nat.le_of_ble_eq_true rfl, Nat.le_of_ble_eq_true rfl⟩) hS (zN_le hAn hS) rfl rfl (fun locs hS => ?_)
  refine lv_istore_n (lv' := [(3, .int (iI (tw_right w p_ (w (261 + 9 * v))))), (0, .ref t.1), (1, .int (iI p_)), (2, .int (iI v))]) hx hb dX4_sees_16 rfl hl (by decide) rfl (fun ls hl => ?_)
  refine lv_iload_n hx hb dX4_sees_17 rfl (lv_at hl 0 rfl) ?_
  refine lv_iconst (v := iI 2) hx hb dX4_sees_18 rfl ?_
  refine z_join (pc2 := 40) (nL := 4) (lv := [(3, .int (iI (tw_right w p_ (w (261 + 9 * v))))), (0, .ref t.1), (1, .int (iI p_)), (2, .int (iI v))]) (st2 := [.int (iI (bI ((decide (tw_right w p_ (w (261 + 9 * v)) = 2)) || ((decide (tw_right w p_ (w (261 + 9 * v)) = 1)) && (tw_isReleased w v)))))]) hS (fun J_2 => ?_) (fun locs ls hS hl => ?_)
  · refine z_icmp_eq (x := tw_right w p_ (w (261 + 9 * v))) (y := 2) (tgt := 35) hx hb (tw_right_R hT.2.2.2.2.2.2.1 _ _) (by decide) dX4_sees_19 (by decide) (fun c_3 => ?_) (fun c_3 => ?_)
    · refine lv_iconst (v := iI 1) hx hb dX4_sees_35 rfl ?_
      refine lv_goto (tgt := 40) hx hb dX4_sees_36 (by decide) ?_
      refine z_top (x := 1) (y := bI ((decide (tw_right w p_ (w (261 + 9 * v)) = 2)) || ((decide (tw_right w p_ (w (261 + 9 * v)) = 1)) && (tw_isReleased w v)))) (by simp [bI, c_3]) ?_
      exact J_2 _ ls hS (lv_sub hl [0, 1, 2, 3] rfl)
    · refine lv_iload_n hx hb dX4_sees_22 rfl (lv_at hl 0 rfl) ?_
      refine lv_iconst (v := iI 1) hx hb dX4_sees_23 rfl ?_
      refine z_icmp_ne (x := tw_right w p_ (w (261 + 9 * v))) (y := 1) (tgt := 39) hx hb (tw_right_R hT.2.2.2.2.2.2.1 _ _) (by decide) dX4_sees_24 (by decide) (fun c_4 => ?_) (fun c_4 => ?_)
      · refine lv_iconst (v := iI 0) hx hb dX4_sees_39 rfl ?_
        refine z_top (x := 0) (y := bI ((decide (tw_right w p_ (w (261 + 9 * v)) = 2)) || ((decide (tw_right w p_ (w (261 + 9 * v)) = 1)) && (tw_isReleased w v)))) (by simp [bI, c_3, c_4]) ?_
        exact J_2 _ ls hS (lv_sub hl [0, 1, 2, 3] rfl)
      · refine lv_aload_n hx hb dX4_sees_27 rfl (lv_at hl 1 rfl) ?_
        refine lv_iload_n hx hb dX4_sees_28 rfl (lv_at hl 3 rfl) ?_
        refine z_callp (vx_runV (As := [.int (iI v)]) (rest := []) ⟨hx, hb, hml, hown, hts⟩ (tc_isReleased l hT (v := v) (by first | assumption | exact ⟨by omega, by omega⟩ | omega)) (cwV 1 hts (lw_V q2485 q2487 qs28 q49 q2488) rfl rfl rfl hd_X4_isReleased ⟨Nat.le_of_ble_eq_true rfl, Nat.le_of_ble_eq_true rfl⟩) (z_preV hK hS (zN_le hAn hS) hT.1 rfl rfl) rfl rfl hl.1 rfl (lv_room (Nat.le_of_ble_eq_true rfl)) dX4_sees_29 ⟨Nat.le_of_ble_eq_true rfl, Nat.le_of_ble_eq_true rfl⟩) hS (zN_le hAn hS) rfl rfl (fun locs hS => ?_)
        refine z_ifb_eq (b := tw_isReleased w v) (tgt := 39) hx hb dX4_sees_32 (by decide) (fun c_5 => ?_) (fun c_5 => ?_)
        · refine lv_iconst (v := iI 0) hx hb dX4_sees_39 rfl ?_
          refine z_top (x := 0) (y := bI ((decide (tw_right w p_ (w (261 + 9 * v)) = 2)) || ((decide (tw_right w p_ (w (261 + 9 * v)) = 1)) && (tw_isReleased w v)))) (by simp [bI, c_3, c_4, c_5]) ?_
          exact J_2 _ ls hS (lv_sub hl [0, 1, 2, 3] rfl)
        · refine lv_iconst (v := iI 1) hx hb dX4_sees_35 rfl ?_
          refine lv_goto (tgt := 40) hx hb dX4_sees_36 (by decide) ?_
          refine z_top (x := 1) (y := bI ((decide (tw_right w p_ (w (261 + 9 * v)) = 2)) || ((decide (tw_right w p_ (w (261 + 9 * v)) = 1)) && (tw_isReleased w v)))) (by simp [bI, c_3, c_4, c_5]) ?_
          exact J_2 _ ls hS (lv_sub hl [0, 1, 2, 3] rfl)
  · exact z_iret hx hb hr (z_nar _) hlocks hS ⟨rfl, rfl⟩ (Nat.le_of_ble_eq_true rfl) (Nat.le_of_ble_eq_true rfl) dX4_sees_40
def tw_isOn (w : Int → Int) (v d b : Int) : Bool := (decide (w (261 + 9 * v + 8) = 1)) && ((decide (w (261 + 9 * v) = d)) && (decide (w (261 + 9 * v + 1) = b)))
theorem hn_X4_isOn : yX4_isOn.cls ≠ "java/lang/invoke/MethodHandle" ∧ yX4_isOn.cls ≠ "java/lang/invoke/VarHandle" ∧ (parseMethodDescriptor yX4_isOn.desc).map (fun d => d.parameters.length) = some 3 := by decide +kernel
theorem hd_X4_isOn : yX4_isOn.cls = "CheckoutDeskModel" ∧ yX4_isOn.cls ≠ "java/lang/invoke/MethodHandle" ∧ yX4_isOn.cls ≠ "java/lang/invoke/VarHandle" ∧ (parseMethodDescriptor yX4_isOn.desc).map (fun d => d.parameters.length) = some 3 := ⟨rfl, hn_X4_isOn⟩
abbrev rm_X4_isOn : Room := { frames := 2, cells := 0, slots := 0, locals := 36 }
set_option maxHeartbeats 4000000 in
theorem tc_isOn (l : Launch) {G : zG} {t : zTau} {w kp lg hr : Int → Int} {ev rd th : Int} {H0 : Heap} (hT : zT G t w kp lg hr ev rd th H0) {v d b : Int} (hv60 : 0 ≤ v ∧ v < 60) (hd : inR d) (hb : inR b) : zM l yX4_isOn (ws_ yX4_isOn cX4_isOn 4 (some .boolean)) rm_X4_isOn G (zN H0) [.ref t.1, .int (iI v), .int (iI d), .int (iI b)] H0 (fun r H1 => r = some (.int (iI (bI (tw_isOn w v d b)))) ∧ H1 = H0) (fun _ => False) := by
  refine z_enter (by decide +kernel) (Nat.le_of_ble_eq_true rfl) ?_
  intro p e s m args below meth c ls hx hb hr hml hown hts hlocks htab hnm hK hH hl
  subst hH
  have hAn : ∀ q, s.heap.size ≤ q → zN s.heap q := fun _ h => h
  have hS : va_S (zN s.heap) s.heap s.heap [] := va_S.rf
  have hl : lv_has ls 4 [(0, .ref t.1), (1, .int (iI v)), (2, .int (iI d)), (3, .int (iI b))] := hl
  refine lv_aload_n hx hb dX4_isOn_0 rfl (lv_at hl 0 rfl) ?_
  refine z_get (k := 0) hx hb hts in_X4 hown hK hT.1 rfl (by decide) q2331 rfl (v := .ref t.2.1) rfl dX4_isOn_1 ?_
  refine lv_iload_n hx hb dX4_isOn_4 rfl (lv_at hl 1 rfl) ?_
  refine z_callp (vx_runS (As := [.int (iI v)]) (rest := [.ref t.2.1]) ⟨hx, hb, hml, hown, hts⟩ (tc_ver l (v := v)) (va_cwS 1 hts (lw_S q2405 q2406 q49 q2407) rfl rfl rfl hn_X4_ver ⟨Nat.le_of_ble_eq_true rfl, Nat.le_of_ble_eq_true rfl⟩) (z_preS hK hS (zN_le hAn hS)) rfl rfl hl.1 rfl (lv_room (Nat.le_of_ble_eq_true rfl)) dX4_isOn_5 ⟨Nat.le_of_ble_eq_true rfl, Nat.le_of_ble_eq_true rfl⟩) hS (zN_le hAn hS) rfl rfl (fun locs hS => ?_)
  refine lv_bipush (v := iI 8) hx hb dX4_isOn_8 (by decide) ?_
  refine z_iadd (x := 261 + 9 * v) (y := 8) hx hb dX4_isOn_10 ?_
  refine z_ildZ (i := 261 + 9 * v + 8) (f := w) hx hb hK hT.2.1 ⟨by omega, by omega⟩ (by decide) dX4_isOn_11 ?_
  have r_1 : inR (w (261 + 9 * v + 8)) := hT.2.2.2.2.2.2.1 (261 + 9 * v + 8)
  refine lv_iconst (v := iI 1) hx hb dX4_isOn_12 rfl ?_
  refine z_join (pc2 := 51) (nL := 4) (lv := [(0, .ref t.1), (1, .int (iI v)), (2, .int (iI d)), (3, .int (iI b))]) (st2 := [.int (iI (bI ((decide (w (261 + 9 * v + 8) = 1)) && ((decide (w (261 + 9 * v) = d)) && (decide (w (261 + 9 * v + 1) = b))))))]) hS (fun J_2 => ?_) (fun locs ls hS hl => ?_)
  · refine z_icmp_ne (x := w (261 + 9 * v + 8)) (y := 1) (tgt := 50) hx hb (by first | assumption | exact ⟨by omega, by omega⟩) (by decide) dX4_isOn_13 (by decide) (fun c_3 => ?_) (fun c_3 => ?_)
    · refine lv_iconst (v := iI 0) hx hb dX4_isOn_50 rfl ?_
      refine z_top (x := 0) (y := bI ((decide (w (261 + 9 * v + 8) = 1)) && ((decide (w (261 + 9 * v) = d)) && (decide (w (261 + 9 * v + 1) = b))))) (by simp [bI, c_3]) ?_
      exact J_2 _ ls hS (lv_sub hl [0, 1, 2, 3] rfl)
    · refine lv_aload_n hx hb dX4_isOn_16 rfl (lv_at hl 0 rfl) ?_
      refine z_get (k := 0) hx hb hts in_X4 hown hK hT.1 rfl (by decide) q2331 rfl (v := .ref t.2.1) rfl dX4_isOn_17 ?_
      refine lv_iload_n hx hb dX4_isOn_20 rfl (lv_at hl 1 rfl) ?_
      refine z_callp (vx_runS (As := [.int (iI v)]) (rest := [.ref t.2.1]) ⟨hx, hb, hml, hown, hts⟩ (tc_ver l (v := v)) (va_cwS 1 hts (lw_S q2405 q2406 q49 q2407) rfl rfl rfl hn_X4_ver ⟨Nat.le_of_ble_eq_true rfl, Nat.le_of_ble_eq_true rfl⟩) (z_preS hK hS (zN_le hAn hS)) rfl rfl hl.1 rfl (lv_room (Nat.le_of_ble_eq_true rfl)) dX4_isOn_21 ⟨Nat.le_of_ble_eq_true rfl, Nat.le_of_ble_eq_true rfl⟩) hS (zN_le hAn hS) rfl rfl (fun locs hS => ?_)
      refine lv_iconst (v := iI 0) hx hb dX4_isOn_24 rfl ?_
      refine z_iadd0 hx hb dX4_isOn_25 ?_
      refine z_ildZ (i := 261 + 9 * v) (f := w) hx hb hK hT.2.1 ⟨by omega, by omega⟩ (by decide) dX4_isOn_26 ?_
      have r_4 : inR (w (261 + 9 * v)) := hT.2.2.2.2.2.2.1 (261 + 9 * v)
      refine lv_iload_n hx hb dX4_isOn_27 rfl (lv_at hl 2 rfl) ?_
      refine z_icmp_ne (x := w (261 + 9 * v)) (y := d) (tgt := 50) hx hb (by first | assumption | exact ⟨by omega, by omega⟩) (by first | assumption | exact ⟨by omega, by omega⟩) dX4_isOn_28 (by decide) (fun c_5 => ?_) (fun c_5 => ?_)
      · refine lv_iconst (v := iI 0) hx hb dX4_isOn_50 rfl ?_
        refine z_top (x := 0) (y := bI ((decide (w (261 + 9 * v + 8) = 1)) && ((decide (w (261 + 9 * v) = d)) && (decide (w (261 + 9 * v + 1) = b))))) (by simp [bI, c_3, c_5]) ?_
        exact J_2 _ ls hS (lv_sub hl [0, 1, 2, 3] rfl)
      · refine lv_aload_n hx hb dX4_isOn_31 rfl (lv_at hl 0 rfl) ?_
        refine z_get (k := 0) hx hb hts in_X4 hown hK hT.1 rfl (by decide) q2331 rfl (v := .ref t.2.1) rfl dX4_isOn_32 ?_
        refine lv_iload_n hx hb dX4_isOn_35 rfl (lv_at hl 1 rfl) ?_
        refine z_callp (vx_runS (As := [.int (iI v)]) (rest := [.ref t.2.1]) ⟨hx, hb, hml, hown, hts⟩ (tc_ver l (v := v)) (va_cwS 1 hts (lw_S q2405 q2406 q49 q2407) rfl rfl rfl hn_X4_ver ⟨Nat.le_of_ble_eq_true rfl, Nat.le_of_ble_eq_true rfl⟩) (z_preS hK hS (zN_le hAn hS)) rfl rfl hl.1 rfl (lv_room (Nat.le_of_ble_eq_true rfl)) dX4_isOn_36 ⟨Nat.le_of_ble_eq_true rfl, Nat.le_of_ble_eq_true rfl⟩) hS (zN_le hAn hS) rfl rfl (fun locs hS => ?_)
        refine lv_iconst (v := iI 1) hx hb dX4_isOn_39 rfl ?_
        refine z_iadd (x := 261 + 9 * v) (y := 1) hx hb dX4_isOn_40 ?_
        refine z_ildZ (i := 261 + 9 * v + 1) (f := w) hx hb hK hT.2.1 ⟨by omega, by omega⟩ (by decide) dX4_isOn_41 ?_
        have r_6 : inR (w (261 + 9 * v + 1)) := hT.2.2.2.2.2.2.1 (261 + 9 * v + 1)
        refine lv_iload_n hx hb dX4_isOn_42 rfl (lv_at hl 3 rfl) ?_
        refine z_icmp_ne (x := w (261 + 9 * v + 1)) (y := b) (tgt := 50) hx hb (by first | assumption | exact ⟨by omega, by omega⟩) (by first | assumption | exact ⟨by omega, by omega⟩) dX4_isOn_43 (by decide) (fun c_7 => ?_) (fun c_7 => ?_)
        · refine lv_iconst (v := iI 0) hx hb dX4_isOn_50 rfl ?_
          refine z_top (x := 0) (y := bI ((decide (w (261 + 9 * v + 8) = 1)) && ((decide (w (261 + 9 * v) = d)) && (decide (w (261 + 9 * v + 1) = b))))) (by simp [bI, c_3, c_5, c_7]) ?_
          exact J_2 _ ls hS (lv_sub hl [0, 1, 2, 3] rfl)
        · refine lv_iconst (v := iI 1) hx hb dX4_isOn_46 rfl ?_
          refine lv_goto (tgt := 51) hx hb dX4_isOn_47 (by decide) ?_
          refine z_top (x := 1) (y := bI ((decide (w (261 + 9 * v + 8) = 1)) && ((decide (w (261 + 9 * v) = d)) && (decide (w (261 + 9 * v + 1) = b))))) (by simp [bI, c_3, c_5, c_7]) ?_
          exact J_2 _ ls hS (lv_sub hl [0, 1, 2, 3] rfl)
  · exact z_iret hx hb hr (z_nar _) hlocks hS ⟨rfl, rfl⟩ (Nat.le_of_ble_eq_true rfl) (Nat.le_of_ble_eq_true rfl) dX4_isOn_51
def tw_isBehind (w : Int → Int) (a b : Int) : Bool := (decide (w (261 + 9 * b + 2) < w (261 + 9 * a + 2))) || ((decide (w (261 + 9 * a + 2) = w (261 + 9 * b + 2))) && (decide (w (261 + 9 * b + 3) < w (261 + 9 * a + 3))))
theorem hn_X4_isBehind : yX4_isBehind.cls ≠ "java/lang/invoke/MethodHandle" ∧ yX4_isBehind.cls ≠ "java/lang/invoke/VarHandle" ∧ (parseMethodDescriptor yX4_isBehind.desc).map (fun d => d.parameters.length) = some 2 := by decide +kernel
theorem hd_X4_isBehind : yX4_isBehind.cls = "CheckoutDeskModel" ∧ yX4_isBehind.cls ≠ "java/lang/invoke/MethodHandle" ∧ yX4_isBehind.cls ≠ "java/lang/invoke/VarHandle" ∧ (parseMethodDescriptor yX4_isBehind.desc).map (fun d => d.parameters.length) = some 2 := ⟨rfl, hn_X4_isBehind⟩
abbrev rm_X4_isBehind : Room := { frames := 2, cells := 0, slots := 0, locals := 36 }
set_option maxHeartbeats 4000000 in
theorem tc_isBehind (l : Launch) {G : zG} {t : zTau} {w kp lg hr : Int → Int} {ev rd th : Int} {H0 : Heap} (hT : zT G t w kp lg hr ev rd th H0) {a b : Int} (ha60 : 0 ≤ a ∧ a < 60) (hb60 : 0 ≤ b ∧ b < 60) : zM l yX4_isBehind (ws_ yX4_isBehind cX4_isBehind 5 (some .boolean)) rm_X4_isBehind G (zN H0) [.ref t.1, .int (iI a), .int (iI b)] H0 (fun r H1 => r = some (.int (iI (bI (tw_isBehind w a b)))) ∧ H1 = H0) (fun _ => False) := by
  refine z_enter (by decide +kernel) (Nat.le_of_ble_eq_true rfl) ?_
  intro p e s m args below meth c ls hx hb hr hml hown hts hlocks htab hnm hK hH hl
  subst hH
  have hAn : ∀ q, s.heap.size ≤ q → zN s.heap q := fun _ h => h
  have hS : va_S (zN s.heap) s.heap s.heap [] := va_S.rf
  have hl : lv_has ls 5 [(0, .ref t.1), (1, .int (iI a)), (2, .int (iI b))] := hl
  refine lv_iload_n hx hb dX4_isBehind_0 rfl (lv_at hl 1 rfl) ?_
  refine z_callp (vx_runS (As := [.int (iI a)]) (rest := []) ⟨hx, hb, hml, hown, hts⟩ (tc_ver l (v := a)) (va_cwS 1 hts (lw_S q2405 q2406 q49 q2407) rfl rfl rfl hn_X4_ver ⟨Nat.le_of_ble_eq_true rfl, Nat.le_of_ble_eq_true rfl⟩) (z_preS hK hS (zN_le hAn hS)) rfl rfl hl.1 rfl (lv_room (Nat.le_of_ble_eq_true rfl)) dX4_isBehind_1 ⟨Nat.le_of_ble_eq_true rfl, Nat.le_of_ble_eq_true rfl⟩) hS (zN_le hAn hS) rfl rfl (fun locs hS => ?_)
  refine lv_istore_n (lv' := [(3, .int (iI (261 + 9 * a))), (0, .ref t.1), (1, .int (iI a)), (2, .int (iI b))]) hx hb dX4_isBehind_4 rfl hl (by decide) rfl (fun ls hl => ?_)
  refine lv_iload_n hx hb dX4_isBehind_5 rfl (lv_at hl 3 rfl) ?_
  refine z_callp (vx_runS (As := [.int (iI b)]) (rest := []) ⟨hx, hb, hml, hown, hts⟩ (tc_ver l (v := b)) (va_cwS 1 hts (lw_S q2405 q2406 q49 q2407) rfl rfl rfl hn_X4_ver ⟨Nat.le_of_ble_eq_true rfl, Nat.le_of_ble_eq_true rfl⟩) (z_preS hK hS (zN_le hAn hS)) rfl rfl hl.1 rfl (lv_room (Nat.le_of_ble_eq_true rfl)) dX4_isBehind_6 ⟨Nat.le_of_ble_eq_true rfl, Nat.le_of_ble_eq_true rfl⟩) hS (zN_le hAn hS) rfl rfl (fun locs hS => ?_)
  refine lv_istore (lv' := [(4, .int (iI (261 + 9 * b))), (3, .int (iI (261 + 9 * a))), (0, .ref t.1), (1, .int (iI a)), (2, .int (iI b))]) hx hb dX4_isBehind_9 hl (by decide) rfl (fun ls hl => ?_)
  refine lv_aload_n hx hb dX4_isBehind_11 rfl (lv_at hl 2 rfl) ?_
  refine z_get (k := 0) hx hb hts in_X4 hown hK hT.1 rfl (by decide) q2331 rfl (v := .ref t.2.1) rfl dX4_isBehind_12 ?_
  refine lv_iload_n hx hb dX4_isBehind_15 rfl (lv_at hl 1 rfl) ?_
  refine lv_iconst (v := iI 2) hx hb dX4_isBehind_16 rfl ?_
  refine z_iadd (x := 261 + 9 * a) (y := 2) hx hb dX4_isBehind_17 ?_
  refine z_ildZ (i := 261 + 9 * a + 2) (f := w) hx hb hK hT.2.1 ⟨by omega, by omega⟩ (by decide) dX4_isBehind_18 ?_
  have r_1 : inR (w (261 + 9 * a + 2)) := hT.2.2.2.2.2.2.1 (261 + 9 * a + 2)
  refine lv_aload_n hx hb dX4_isBehind_19 rfl (lv_at hl 2 rfl) ?_
  refine z_get (k := 0) hx hb hts in_X4 hown hK hT.1 rfl (by decide) q2331 rfl (v := .ref t.2.1) rfl dX4_isBehind_20 ?_
  refine lv_iload hx hb dX4_isBehind_23 (lv_at hl 0 rfl) ?_
  refine lv_iconst (v := iI 2) hx hb dX4_isBehind_25 rfl ?_
  refine z_iadd (x := 261 + 9 * b) (y := 2) hx hb dX4_isBehind_26 ?_
  refine z_ildZ (i := 261 + 9 * b + 2) (f := w) hx hb hK hT.2.1 ⟨by omega, by omega⟩ (by decide) dX4_isBehind_27 ?_
  have r_2 : inR (w (261 + 9 * b + 2)) := hT.2.2.2.2.2.2.1 (261 + 9 * b + 2)
  refine z_join (pc2 := 76) (nL := 5) (lv := [(4, .int (iI (261 + 9 * b))), (3, .int (iI (261 + 9 * a))), (0, .ref t.1), (1, .int (iI a)), (2, .int (iI b))]) (st2 := [.int (iI (bI ((decide (w (261 + 9 * b + 2) < w (261 + 9 * a + 2))) || ((decide (w (261 + 9 * a + 2) = w (261 + 9 * b + 2))) && (decide (w (261 + 9 * b + 3) < w (261 + 9 * a + 3)))))))]) hS (fun J_3 => ?_) (fun locs ls hS hl => ?_)
  · refine z_icmp_gt (x := w (261 + 9 * a + 2)) (y := w (261 + 9 * b + 2)) (tgt := 71) hx hb (by first | assumption | exact ⟨by omega, by omega⟩) (by first | assumption | exact ⟨by omega, by omega⟩) dX4_isBehind_28 (by decide) (fun c_4 => ?_) (fun c_4 => ?_)
    · refine lv_iconst (v := iI 1) hx hb dX4_isBehind_71 rfl ?_
      refine lv_goto (tgt := 76) hx hb dX4_isBehind_72 (by decide) ?_
      refine z_top (x := 1) (y := bI ((decide (w (261 + 9 * b + 2) < w (261 + 9 * a + 2))) || ((decide (w (261 + 9 * a + 2) = w (261 + 9 * b + 2))) && (decide (w (261 + 9 * b + 3) < w (261 + 9 * a + 3)))))) (by simp [bI, c_4]) ?_
      exact J_3 _ ls hS (lv_sub hl [0, 1, 2, 3, 4] rfl)
    · refine lv_aload_n hx hb dX4_isBehind_31 rfl (lv_at hl 2 rfl) ?_
      refine z_get (k := 0) hx hb hts in_X4 hown hK hT.1 rfl (by decide) q2331 rfl (v := .ref t.2.1) rfl dX4_isBehind_32 ?_
      refine lv_iload_n hx hb dX4_isBehind_35 rfl (lv_at hl 1 rfl) ?_
      refine lv_iconst (v := iI 2) hx hb dX4_isBehind_36 rfl ?_
      refine z_iadd (x := 261 + 9 * a) (y := 2) hx hb dX4_isBehind_37 ?_
      refine z_ildZ (i := 261 + 9 * a + 2) (f := w) hx hb hK hT.2.1 ⟨by omega, by omega⟩ (by decide) dX4_isBehind_38 ?_
      have r_5 : inR (w (261 + 9 * a + 2)) := hT.2.2.2.2.2.2.1 (261 + 9 * a + 2)
      refine lv_aload_n hx hb dX4_isBehind_39 rfl (lv_at hl 2 rfl) ?_
      refine z_get (k := 0) hx hb hts in_X4 hown hK hT.1 rfl (by decide) q2331 rfl (v := .ref t.2.1) rfl dX4_isBehind_40 ?_
      refine lv_iload hx hb dX4_isBehind_43 (lv_at hl 0 rfl) ?_
      refine lv_iconst (v := iI 2) hx hb dX4_isBehind_45 rfl ?_
      refine z_iadd (x := 261 + 9 * b) (y := 2) hx hb dX4_isBehind_46 ?_
      refine z_ildZ (i := 261 + 9 * b + 2) (f := w) hx hb hK hT.2.1 ⟨by omega, by omega⟩ (by decide) dX4_isBehind_47 ?_
      have r_6 : inR (w (261 + 9 * b + 2)) := hT.2.2.2.2.2.2.1 (261 + 9 * b + 2)
      refine z_icmp_ne (x := w (261 + 9 * a + 2)) (y := w (261 + 9 * b + 2)) (tgt := 75) hx hb (by first | assumption | exact ⟨by omega, by omega⟩) (by first | assumption | exact ⟨by omega, by omega⟩) dX4_isBehind_48 (by decide) (fun c_7 => ?_) (fun c_7 => ?_)
      · refine lv_iconst (v := iI 0) hx hb dX4_isBehind_75 rfl ?_
        refine z_top (x := 0) (y := bI ((decide (w (261 + 9 * b + 2) < w (261 + 9 * a + 2))) || ((decide (w (261 + 9 * a + 2) = w (261 + 9 * b + 2))) && (decide (w (261 + 9 * b + 3) < w (261 + 9 * a + 3)))))) (by simp [bI, c_4, c_7]) ?_
        exact J_3 _ ls hS (lv_sub hl [0, 1, 2, 3, 4] rfl)
      · refine lv_aload_n hx hb dX4_isBehind_51 rfl (lv_at hl 2 rfl) ?_
        refine z_get (k := 0) hx hb hts in_X4 hown hK hT.1 rfl (by decide) q2331 rfl (v := .ref t.2.1) rfl dX4_isBehind_52 ?_
        refine lv_iload_n hx hb dX4_isBehind_55 rfl (lv_at hl 1 rfl) ?_
        refine lv_iconst (v := iI 3) hx hb dX4_isBehind_56 rfl ?_
        refine z_iadd (x := 261 + 9 * a) (y := 3) hx hb dX4_isBehind_57 ?_
        refine z_ildZ (i := 261 + 9 * a + 3) (f := w) hx hb hK hT.2.1 ⟨by omega, by omega⟩ (by decide) dX4_isBehind_58 ?_
        have r_8 : inR (w (261 + 9 * a + 3)) := hT.2.2.2.2.2.2.1 (261 + 9 * a + 3)
        refine lv_aload_n hx hb dX4_isBehind_59 rfl (lv_at hl 2 rfl) ?_
        refine z_get (k := 0) hx hb hts in_X4 hown hK hT.1 rfl (by decide) q2331 rfl (v := .ref t.2.1) rfl dX4_isBehind_60 ?_
        refine lv_iload hx hb dX4_isBehind_63 (lv_at hl 0 rfl) ?_
        refine lv_iconst (v := iI 3) hx hb dX4_isBehind_65 rfl ?_
        refine z_iadd (x := 261 + 9 * b) (y := 3) hx hb dX4_isBehind_66 ?_
        refine z_ildZ (i := 261 + 9 * b + 3) (f := w) hx hb hK hT.2.1 ⟨by omega, by omega⟩ (by decide) dX4_isBehind_67 ?_
        have r_9 : inR (w (261 + 9 * b + 3)) := hT.2.2.2.2.2.2.1 (261 + 9 * b + 3)
        refine z_icmp_le (x := w (261 + 9 * a + 3)) (y := w (261 + 9 * b + 3)) (tgt := 75) hx hb (by first | assumption | exact ⟨by omega, by omega⟩) (by first | assumption | exact ⟨by omega, by omega⟩) dX4_isBehind_68 (by decide) (fun c_10 => ?_) (fun c_10 => ?_)
        · refine lv_iconst (v := iI 0) hx hb dX4_isBehind_75 rfl ?_
          refine z_top (x := 0) (y := bI ((decide (w (261 + 9 * b + 2) < w (261 + 9 * a + 2))) || ((decide (w (261 + 9 * a + 2) = w (261 + 9 * b + 2))) && (decide (w (261 + 9 * b + 3) < w (261 + 9 * a + 3)))))) (by simp [bI, c_4, c_7, c_10]) ?_
          exact J_3 _ ls hS (lv_sub hl [0, 1, 2, 3, 4] rfl)
        · refine lv_iconst (v := iI 1) hx hb dX4_isBehind_71 rfl ?_
          refine lv_goto (tgt := 76) hx hb dX4_isBehind_72 (by decide) ?_
          refine z_top (x := 1) (y := bI ((decide (w (261 + 9 * b + 2) < w (261 + 9 * a + 2))) || ((decide (w (261 + 9 * a + 2) = w (261 + 9 * b + 2))) && (decide (w (261 + 9 * b + 3) < w (261 + 9 * a + 3)))))) (by simp [bI, c_4, c_7, c_10]) ?_
          exact J_3 _ ls hS (lv_sub hl [0, 1, 2, 3, 4] rfl)
  · exact z_iret hx hb hr (z_nar _) hlocks hS ⟨rfl, rfl⟩ (Nat.le_of_ble_eq_true rfl) (Nat.le_of_ble_eq_true rfl) dX4_isBehind_76
def tw_holderOf (w : Int → Int) (d b : Int) : Int := w (5 + 32 * d + 8 + 8 * b + 1) - 1
theorem hn_X4_holderOf : yX4_holderOf.cls ≠ "java/lang/invoke/MethodHandle" ∧ yX4_holderOf.cls ≠ "java/lang/invoke/VarHandle" ∧ (parseMethodDescriptor yX4_holderOf.desc).map (fun d => d.parameters.length) = some 2 := by decide +kernel
theorem hd_X4_holderOf : yX4_holderOf.cls = "CheckoutDeskModel" ∧ yX4_holderOf.cls ≠ "java/lang/invoke/MethodHandle" ∧ yX4_holderOf.cls ≠ "java/lang/invoke/VarHandle" ∧ (parseMethodDescriptor yX4_holderOf.desc).map (fun d => d.parameters.length) = some 2 := ⟨rfl, hn_X4_holderOf⟩
abbrev rm_X4_holderOf : Room := { frames := 3, cells := 0, slots := 0, locals := 57 }
set_option maxHeartbeats 4000000 in
theorem tc_holderOf (l : Launch) {G : zG} {t : zTau} {w kp lg hr : Int → Int} {ev rd th : Int} {H0 : Heap} (hT : zT G t w kp lg hr ev rd th H0) {d b : Int} (hd8 : 0 ≤ d ∧ d < 8) (hb3 : 0 ≤ b ∧ b < 3) : zM l yX4_holderOf (ws_ yX4_holderOf cX4_holderOf 3 (some .int)) rm_X4_holderOf G (zN H0) [.ref t.1, .int (iI d), .int (iI b)] H0 (fun r H1 => r = some (.int (iI (tw_holderOf w d b))) ∧ H1 = H0) (fun _ => False) := by
  refine z_enter (by decide +kernel) (Nat.le_of_ble_eq_true rfl) ?_
  intro p e s m args below meth c ls hx hb hr hml hown hts hlocks htab hnm hK hH hl
  subst hH
  have hAn : ∀ q, s.heap.size ≤ q → zN s.heap q := fun _ h => h
  have hS : va_S (zN s.heap) s.heap s.heap [] := va_S.rf
  have hl : lv_has ls 3 [(0, .ref t.1), (1, .int (iI d)), (2, .int (iI b))] := hl
  refine lv_aload_n hx hb dX4_holderOf_0 rfl (lv_at hl 0 rfl) ?_
  refine z_get (k := 0) hx hb hts in_X4 hown hK hT.1 rfl (by decide) q2331 rfl (v := .ref t.2.1) rfl dX4_holderOf_1 ?_
  refine lv_iload_n hx hb dX4_holderOf_4 rfl (lv_at hl 1 rfl) ?_
  refine lv_iload_n hx hb dX4_holderOf_5 rfl (lv_at hl 2 rfl) ?_
  refine z_callp (vx_runS (As := [.int (iI d), .int (iI b)]) (rest := [.ref t.2.1]) ⟨hx, hb, hml, hown, hts⟩ (tc_place l (d := d) (b := b)) (va_cwS 2 hts (lw_S q2398 q2399 q49 q2400) rfl rfl rfl hn_X4_place ⟨Nat.le_of_ble_eq_true rfl, Nat.le_of_ble_eq_true rfl⟩) (z_preS hK hS (zN_le hAn hS)) rfl rfl hl.1 rfl (lv_room (Nat.le_of_ble_eq_true rfl)) dX4_holderOf_6 ⟨Nat.le_of_ble_eq_true rfl, Nat.le_of_ble_eq_true rfl⟩) hS (zN_le hAn hS) rfl rfl (fun locs hS => ?_)
  refine lv_iconst (v := iI 1) hx hb dX4_holderOf_9 rfl ?_
  refine z_iadd (x := 5 + 32 * d + 8 + 8 * b) (y := 1) hx hb dX4_holderOf_10 ?_
  refine z_ildZ (i := 5 + 32 * d + 8 + 8 * b + 1) (f := w) hx hb hK hT.2.1 ⟨by omega, by omega⟩ (by decide) dX4_holderOf_11 ?_
  have r_1 : inR (w (5 + 32 * d + 8 + 8 * b + 1)) := hT.2.2.2.2.2.2.1 (5 + 32 * d + 8 + 8 * b + 1)
  refine lv_iconst (v := iI 1) hx hb dX4_holderOf_12 rfl ?_
  refine z_isub (x := w (5 + 32 * d + 8 + 8 * b + 1)) (y := 1) hx hb dX4_holderOf_13 ?_
  exact z_iret hx hb hr rfl hlocks hS ⟨rfl, rfl⟩ (Nat.le_of_ble_eq_true rfl) (Nat.le_of_ble_eq_true rfl) dX4_holderOf_14
theorem tw_holderOf_R {w : Int → Int} (hw : ∀ k, inR (w k)) {d b : Int} (h : 0 ≤ w (5 + 32 * d + 8 + 8 * b + 1)) : inR (tw_holderOf w d b) := by unfold tw_holderOf; have := hw (5 + 32 * d + 8 + 8 * b + 1); exact ⟨by omega, by omega⟩
def tw_holds (w : Int → Int) (p_ d b : Int) : Bool := decide (tw_holderOf w d b = p_)
theorem hn_X4_holds : yX4_holds.cls ≠ "java/lang/invoke/MethodHandle" ∧ yX4_holds.cls ≠ "java/lang/invoke/VarHandle" ∧ (parseMethodDescriptor yX4_holds.desc).map (fun d => d.parameters.length) = some 3 := by decide +kernel
theorem hd_X4_holds : yX4_holds.cls = "CheckoutDeskModel" ∧ yX4_holds.cls ≠ "java/lang/invoke/MethodHandle" ∧ yX4_holds.cls ≠ "java/lang/invoke/VarHandle" ∧ (parseMethodDescriptor yX4_holds.desc).map (fun d => d.parameters.length) = some 3 := ⟨rfl, hn_X4_holds⟩
abbrev rm_X4_holds : Room := { frames := 4, cells := 0, slots := 0, locals := 79 }
set_option maxHeartbeats 4000000 in
theorem tc_holds (l : Launch) {G : zG} {t : zTau} {w kp lg hr : Int → Int} {ev rd th : Int} {H0 : Heap} (hT : zT G t w kp lg hr ev rd th H0) {p_ d b : Int} (hp_ : inR p_) (hd8 : 0 ≤ d ∧ d < 8) (hb3 : 0 ≤ b ∧ b < 3) (hho : 0 ≤ w (5 + 32 * d + 8 + 8 * b + 1)) : zM l yX4_holds (ws_ yX4_holds cX4_holds 4 (some .boolean)) rm_X4_holds G (zN H0) [.ref t.1, .int (iI p_), .int (iI d), .int (iI b)] H0 (fun r H1 => r = some (.int (iI (bI (tw_holds w p_ d b)))) ∧ H1 = H0) (fun _ => False) := by
  refine z_enter (by decide +kernel) (Nat.le_of_ble_eq_true rfl) ?_
  intro p e s m args below meth c ls hx hb hr hml hown hts hlocks htab hnm hK hH hl
  subst hH
  have hAn : ∀ q, s.heap.size ≤ q → zN s.heap q := fun _ h => h
  have hS : va_S (zN s.heap) s.heap s.heap [] := va_S.rf
  have hl : lv_has ls 4 [(0, .ref t.1), (1, .int (iI p_)), (2, .int (iI d)), (3, .int (iI b))] := hl
  refine lv_aload_n hx hb dX4_holds_0 rfl (lv_at hl 0 rfl) ?_
  refine lv_iload_n hx hb dX4_holds_1 rfl (lv_at hl 2 rfl) ?_
  refine lv_iload_n hx hb dX4_holds_2 rfl (lv_at hl 3 rfl) ?_
  refine z_callp (vx_runV (As := [.int (iI d), .int (iI b)]) (rest := []) ⟨hx, hb, hml, hown, hts⟩ (tc_holderOf l hT (d := d) (b := b) (by first | assumption | exact ⟨by omega, by omega⟩ | omega) (by first | assumption | exact ⟨by omega, by omega⟩ | omega)) (cwV 2 hts (lw_V q2461 q2463 qs26 q49 q2464) rfl rfl rfl hd_X4_holderOf ⟨Nat.le_of_ble_eq_true rfl, Nat.le_of_ble_eq_true rfl⟩) (z_preV hK hS (zN_le hAn hS) hT.1 rfl rfl) rfl rfl hl.1 rfl (lv_room (Nat.le_of_ble_eq_true rfl)) dX4_holds_3 ⟨Nat.le_of_ble_eq_true rfl, Nat.le_of_ble_eq_true rfl⟩) hS (zN_le hAn hS) rfl rfl (fun locs hS => ?_)
  refine lv_iload_n hx hb dX4_holds_6 rfl (lv_at hl 1 rfl) ?_
  refine z_join (pc2 := 15) (nL := 4) (lv := [(0, .ref t.1), (1, .int (iI p_)), (2, .int (iI d)), (3, .int (iI b))]) (st2 := [.int (iI (bI (decide (tw_holderOf w d b = p_))))]) hS (fun J_1 => ?_) (fun locs ls hS hl => ?_)
  · refine z_icmp_ne (x := tw_holderOf w d b) (y := p_) (tgt := 14) hx hb (tw_holderOf_R hT.2.2.2.2.2.2.1 (by first | assumption | omega)) (by first | assumption | exact ⟨by omega, by omega⟩) dX4_holds_7 (by decide) (fun c_2 => ?_) (fun c_2 => ?_)
    · refine lv_iconst (v := iI 0) hx hb dX4_holds_14 rfl ?_
      refine z_top (x := 0) (y := bI (decide (tw_holderOf w d b = p_))) (by simp [bI, c_2]) ?_
      exact J_1 _ ls hS (lv_sub hl [0, 1, 2, 3] rfl)
    · refine lv_iconst (v := iI 1) hx hb dX4_holds_10 rfl ?_
      refine lv_goto (tgt := 15) hx hb dX4_holds_11 (by decide) ?_
      refine z_top (x := 1) (y := bI (decide (tw_holderOf w d b = p_))) (by simp [bI, c_2]) ?_
      exact J_1 _ ls hS (lv_sub hl [0, 1, 2, 3] rfl)
  · exact z_iret hx hb hr (z_nar _) hlocks hS ⟨rfl, rfl⟩ (Nat.le_of_ble_eq_true rfl) (Nat.le_of_ble_eq_true rfl) dX4_holds_15
def tw_left (w : Int → Int) (d b : Int) : Int := if w (5 + 32 * d + 8 + 8 * b + 1) = 0 then 0 else tw_max 0 (w (5 + 32 * d + 8 + 8 * b + 2) + w 1 - w 0)
theorem hn_X4_left : yX4_left.cls ≠ "java/lang/invoke/MethodHandle" ∧ yX4_left.cls ≠ "java/lang/invoke/VarHandle" ∧ (parseMethodDescriptor yX4_left.desc).map (fun d => d.parameters.length) = some 2 := by decide +kernel
theorem hd_X4_left : yX4_left.cls = "CheckoutDeskModel" ∧ yX4_left.cls ≠ "java/lang/invoke/MethodHandle" ∧ yX4_left.cls ≠ "java/lang/invoke/VarHandle" ∧ (parseMethodDescriptor yX4_left.desc).map (fun d => d.parameters.length) = some 2 := ⟨rfl, hn_X4_left⟩
abbrev rm_X4_left : Room := { frames := 3, cells := 0, slots := 0, locals := 57 }
set_option maxHeartbeats 4000000 in
theorem tc_left (l : Launch) {G : zG} {t : zTau} {w kp lg hr : Int → Int} {ev rd th : Int} {H0 : Heap} (hT : zT G t w kp lg hr ev rd th H0) {d b : Int} (hd8 : 0 ≤ d ∧ d < 8) (hb3 : 0 ≤ b ∧ b < 3) (hgl : inR (w (5 + 32 * d + 8 + 8 * b + 2) + w 1 - w 0)) : zM l yX4_left (ws_ yX4_left cX4_left 4 (some .int)) rm_X4_left G (zN H0) [.ref t.1, .int (iI d), .int (iI b)] H0 (fun r H1 => r = some (.int (iI (tw_left w d b))) ∧ H1 = H0) (fun _ => False) := by
  refine z_enter (by decide +kernel) (Nat.le_of_ble_eq_true rfl) ?_
  intro p e s m args below meth c ls hx hb hr hml hown hts hlocks htab hnm hK hH hl
  subst hH
  have hAn : ∀ q, s.heap.size ≤ q → zN s.heap q := fun _ h => h
  have hS : va_S (zN s.heap) s.heap s.heap [] := va_S.rf
  have hl : lv_has ls 4 [(0, .ref t.1), (1, .int (iI d)), (2, .int (iI b))] := hl
  refine lv_iload_n hx hb dX4_left_0 rfl (lv_at hl 1 rfl) ?_
  refine lv_iload_n hx hb dX4_left_1 rfl (lv_at hl 2 rfl) ?_
  refine z_callp (vx_runS (As := [.int (iI d), .int (iI b)]) (rest := []) ⟨hx, hb, hml, hown, hts⟩ (tc_place l (d := d) (b := b)) (va_cwS 2 hts (lw_S q2398 q2399 q49 q2400) rfl rfl rfl hn_X4_place ⟨Nat.le_of_ble_eq_true rfl, Nat.le_of_ble_eq_true rfl⟩) (z_preS hK hS (zN_le hAn hS)) rfl rfl hl.1 rfl (lv_room (Nat.le_of_ble_eq_true rfl)) dX4_left_2 ⟨Nat.le_of_ble_eq_true rfl, Nat.le_of_ble_eq_true rfl⟩) hS (zN_le hAn hS) rfl rfl (fun locs hS => ?_)
  refine lv_istore_n (lv' := [(3, .int (iI (5 + 32 * d + 8 + 8 * b))), (0, .ref t.1), (1, .int (iI d)), (2, .int (iI b))]) hx hb dX4_left_5 rfl hl (by decide) rfl (fun ls hl => ?_)
  refine lv_aload_n hx hb dX4_left_6 rfl (lv_at hl 1 rfl) ?_
  refine z_get (k := 0) hx hb hts in_X4 hown hK hT.1 rfl (by decide) q2331 rfl (v := .ref t.2.1) rfl dX4_left_7 ?_
  refine lv_iload_n hx hb dX4_left_10 rfl (lv_at hl 0 rfl) ?_
  refine lv_iconst (v := iI 1) hx hb dX4_left_11 rfl ?_
  refine z_iadd (x := 5 + 32 * d + 8 + 8 * b) (y := 1) hx hb dX4_left_12 ?_
  refine z_ildZ (i := 5 + 32 * d + 8 + 8 * b + 1) (f := w) hx hb hK hT.2.1 ⟨by omega, by omega⟩ (by decide) dX4_left_13 ?_
  have r_1 : inR (w (5 + 32 * d + 8 + 8 * b + 1)) := hT.2.2.2.2.2.2.1 (5 + 32 * d + 8 + 8 * b + 1)
  refine z_join (pc2 := 47) (nL := 4) (lv := [(3, .int (iI (5 + 32 * d + 8 + 8 * b))), (0, .ref t.1), (1, .int (iI d)), (2, .int (iI b))]) (st2 := [.int (iI (if w (5 + 32 * d + 8 + 8 * b + 1) = 0 then 0 else tw_max 0 (w (5 + 32 * d + 8 + 8 * b + 2) + w 1 - w 0)))]) hS (fun J_2 => ?_) (fun locs ls hS hl => ?_)
  · refine z_if_ne (x := w (5 + 32 * d + 8 + 8 * b + 1)) (tgt := 21) hx hb (by first | assumption | exact ⟨by omega, by omega⟩) dX4_left_14 (by decide) (fun c_3 => ?_) (fun c_3 => ?_)
    · refine lv_iconst (v := iI 0) hx hb dX4_left_21 rfl ?_
      refine lv_aload_n hx hb dX4_left_22 rfl (lv_at hl 1 rfl) ?_
      refine z_get (k := 0) hx hb hts in_X4 hown hK hT.1 rfl (by decide) q2331 rfl (v := .ref t.2.1) rfl dX4_left_23 ?_
      refine lv_iload_n hx hb dX4_left_26 rfl (lv_at hl 0 rfl) ?_
      refine lv_iconst (v := iI 2) hx hb dX4_left_27 rfl ?_
      refine z_iadd (x := 5 + 32 * d + 8 + 8 * b) (y := 2) hx hb dX4_left_28 ?_
      refine z_ildZ (i := 5 + 32 * d + 8 + 8 * b + 2) (f := w) hx hb hK hT.2.1 ⟨by omega, by omega⟩ (by decide) dX4_left_29 ?_
      have r_4 : inR (w (5 + 32 * d + 8 + 8 * b + 2)) := hT.2.2.2.2.2.2.1 (5 + 32 * d + 8 + 8 * b + 2)
      refine lv_aload_n hx hb dX4_left_30 rfl (lv_at hl 1 rfl) ?_
      refine z_get (k := 0) hx hb hts in_X4 hown hK hT.1 rfl (by decide) q2331 rfl (v := .ref t.2.1) rfl dX4_left_31 ?_
      refine lv_iconst (v := iI 1) hx hb dX4_left_34 rfl ?_
      refine z_ildZ (i := 1) (f := w) hx hb hK hT.2.1 ⟨by omega, by omega⟩ (by decide) dX4_left_35 ?_
      have r_5 : inR (w 1) := hT.2.2.2.2.2.2.1 1
      refine z_iadd (x := w (5 + 32 * d + 8 + 8 * b + 2)) (y := w 1) hx hb dX4_left_36 ?_
      refine lv_aload_n hx hb dX4_left_37 rfl (lv_at hl 1 rfl) ?_
      refine z_get (k := 0) hx hb hts in_X4 hown hK hT.1 rfl (by decide) q2331 rfl (v := .ref t.2.1) rfl dX4_left_38 ?_
      refine lv_iconst (v := iI 0) hx hb dX4_left_41 rfl ?_
      refine z_ildZ (i := 0) (f := w) hx hb hK hT.2.1 ⟨by omega, by omega⟩ (by decide) dX4_left_42 ?_
      have r_6 : inR (w 0) := hT.2.2.2.2.2.2.1 0
      refine z_isub (x := w (5 + 32 * d + 8 + 8 * b + 2) + w 1) (y := w 0) hx hb dX4_left_43 ?_
      refine z_mmax (x := 0) (y := w (5 + 32 * d + 8 + 8 * b + 2) + w 1 - w 0) hx hb (hl.1.trans hml.symm) hown (hts _ q2440) (hts _ q1085) (hts _ q63) (hts _ q1086) (Nat.le_of_ble_eq_true rfl) (Nat.le_of_ble_eq_true rfl) (Nat.le_of_ble_eq_true rfl) (Nat.le_of_ble_eq_true rfl) (by decide) (by first | assumption | exact ⟨by omega, by omega⟩) dX4_left_44 ?_
      refine z_top (x := tw_max 0 (w (5 + 32 * d + 8 + 8 * b + 2) + w 1 - w 0)) (y := if w (5 + 32 * d + 8 + 8 * b + 1) = 0 then 0 else tw_max 0 (w (5 + 32 * d + 8 + 8 * b + 2) + w 1 - w 0)) (by simp [bI, c_3]) ?_
      exact J_2 _ ls hS (lv_sub hl [0, 1, 2, 3] rfl)
    · refine lv_iconst (v := iI 0) hx hb dX4_left_17 rfl ?_
      refine lv_goto (tgt := 47) hx hb dX4_left_18 (by decide) ?_
      refine z_top (x := 0) (y := if w (5 + 32 * d + 8 + 8 * b + 1) = 0 then 0 else tw_max 0 (w (5 + 32 * d + 8 + 8 * b + 2) + w 1 - w 0)) (by simp [bI, c_3]) ?_
      exact J_2 _ ls hS (lv_sub hl [0, 1, 2, 3] rfl)
  · exact z_iret hx hb hr rfl hlocks hS ⟨rfl, rfl⟩ (Nat.le_of_ble_eq_true rfl) (Nat.le_of_ble_eq_true rfl) dX4_left_47
