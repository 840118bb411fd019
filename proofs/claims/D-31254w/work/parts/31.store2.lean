set_option maxRecDepth 100000
theorem zRt_right {w : Int → Int} {d p : Int} : zRt w d p = tw_right w p d := by
  unfold zRt tw_right
  by_cases h : p = w (5 + 32 * d)
  · rw [if_pos h, if_pos h.symm]
  · rw [if_neg h, if_neg (fun q => h q.symm)]
theorem hn_X2_document : yX2_document.cls ≠ "java/lang/invoke/MethodHandle" ∧ yX2_document.cls ≠ "java/lang/invoke/VarHandle" ∧ (parseMethodDescriptor yX2_document.desc).map (fun d => d.parameters.length) = some 1 := by decide +kernel
theorem hd_X2_document : yX2_document.cls = "CheckoutDesk$Store" ∧ yX2_document.cls ≠ "java/lang/invoke/MethodHandle" ∧ yX2_document.cls ≠ "java/lang/invoke/VarHandle" ∧ (parseMethodDescriptor yX2_document.desc).map (fun d => d.parameters.length) = some 1 := ⟨rfl, hn_X2_document⟩
abbrev rm_X2_document : Room := { frames := 10, cells := 0, slots := 0, locals := 161 }
set_option maxHeartbeats 1000000 in
theorem cg_X2_document (l : Launch) {G : zG} {H0 : Heap} {w : Int → Int} {ad : zKey → Nat} {mc : Int → Int} {cp : Int → Nat} {cl : Bool} {F : Nat → Prop} (hR : zR G w ad mc cp cl F H0) {d0 : Int} (h0 : inR d0) (hcd : 0 ≤ d0 ∧ d0 < w 2) : zM l yX2_document (ws_ yX2_document cX2_document 2 (some (.object "CheckoutDesk$Document"))) rm_X2_document G (zN H0) [.ref (ad kst), .int (iI d0)] H0 (fun r H1 => r = some (.ref (ad (kdoc d0))) ∧ H1 = H0) (fun _ => False) := by
  refine z_enter (by decide +kernel) (Nat.le_of_ble_eq_true rfl) ?_
  intro p e s m args below meth c ls hx hb hret hml hown hts hlocks htab hnm hK hH hl
  subst hH
  have hAn : ∀ q, s.heap.size ≤ q → (zN s.heap) q := fun _ h => h
  have hS : va_S (zN s.heap) s.heap s.heap [] := va_S.rf
  have hS0 := hS
  have hsz_0 : s.heap.size ≤ s.heap.size := Nat.le_refl _
  have hl : lv_has ls 2 [(0, .ref (ad kst)), (1, .int (iI d0))] := hl
  obtain ⟨hD, hV, hL_, hB, hwR⟩ := hR.n
  refine lv_aload_n hx hb dX2_document_0 rfl (lv_at hl 0 rfl) ?_
  refine z_get (k := 0) hx hb hts in_X2 hown hK hR.st rfl (by decide) q165 rfl (v := .ref (ad (krow 0))) rfl dX2_document_1 ?_
  refine lv_iload_n hx hb dX2_document_4 rfl (lv_at hl 1 rfl) ?_
  have c_1 : 0 ≤ d0 ∧ d0 < w 2 := hcd
  refine z_callp (vx_runV (As := [.int (iI d0)]) (rest := []) ⟨hx, hb, hml, hown, hts⟩ (cg_X3_get l (i0 := d0) (x0 := ad (kdoc d0)) hR.rowD (hR.lstD (z_eD hK hS)) (by first | with_reducible assumption | with_reducible exact hwR _ | omega | exact ⟨by omega, by omega⟩) c_1 (zad_n (ad := ad) (fun z => kdoc z) (by omega))) (cwV 1 hts (lw_V q291 q292 q293 q48 q294) rfl rfl rfl hd_X3_get ⟨Nat.le_of_ble_eq_true rfl, Nat.le_of_ble_eq_true rfl⟩) (z_preV hK hS (zN_le hAn hS) hR.rowD rfl rfl) rfl rfl hl.1 rfl (lv_room (Nat.le_of_ble_eq_true rfl)) dX2_document_5 ⟨Nat.le_of_ble_eq_true rfl, Nat.le_of_ble_eq_true rfl⟩) hS (zN_le hAn hS) rfl rfl (fun locs hS => ?_)
  refine va_castE (nm := "CheckoutDesk$Document") hx hb hown (hts _ q385) (z_recv (q := (RX14, TX14, 3)) hK (hR.doc (d := d0) (by first | with_reducible assumption | exact ⟨by omega, by omega⟩ | exact ⟨⟨by omega, by omega⟩, by omega, by omega⟩ | exact ⟨⟨⟨by omega, by omega⟩, by omega, by omega⟩, by first | assumption | omega⟩)) rfl) dX2_document_8 ?_
  exact z_aret (r := some (ad (kdoc d0))) hx hb hret (Or.inl ⟨_, rfl⟩) hlocks hS ⟨rfl, rfl⟩ (Nat.le_of_ble_eq_true rfl) (Nat.le_of_ble_eq_true rfl) dX2_document_11
abbrev rx_cx_X2_document : Room := { frames := 10, cells := 1, slots := 6, locals := 161 }
set_option maxHeartbeats 1000000 in
theorem cx_X2_document (l : Launch) (hst : l.stackTraces = false) {G : zG} {H0 : Heap} {w : Int → Int} {ad : zKey → Nat} {mc : Int → Int} {cp : Int → Nat} {cl : Bool} {F : Nat → Prop} (hR : zR G w ad mc cp cl F H0) {d0 : Int} (h0 : inR d0) (hcd : ¬ (0 ≤ d0 ∧ d0 < w 2)) : zM l yX2_document (ws_ yX2_document cX2_document 2 (some (.object "CheckoutDesk$Document"))) rx_cx_X2_document G (zN H0) [.ref (ad kst), .int (iI d0)] H0 (fun _ _ => False) (fun E => E = "java/lang/IndexOutOfBoundsException") := by
  refine z_enter (by decide +kernel) (Nat.le_of_ble_eq_true rfl) ?_
  intro p e s m args below meth c ls hx hb hret hml hown hts hlocks htab hnm hK hH hl
  subst hH
  have hAn : ∀ q, s.heap.size ≤ q → (zN s.heap) q := fun _ h => h
  have hS : va_S (zN s.heap) s.heap s.heap [] := va_S.rf
  have hS0 := hS
  have hsz_0 : s.heap.size ≤ s.heap.size := Nat.le_refl _
  have hl : lv_has ls 2 [(0, .ref (ad kst)), (1, .int (iI d0))] := hl
  obtain ⟨hD, hV, hL_, hB, hwR⟩ := hR.n
  refine lv_aload_n hx hb dX2_document_0 rfl (lv_at hl 0 rfl) ?_
  refine z_get (k := 0) hx hb hts in_X2 hown hK hR.st rfl (by decide) q165 rfl (v := .ref (ad (krow 0))) rfl dX2_document_1 ?_
  refine lv_iload_n hx hb dX2_document_4 rfl (lv_at hl 1 rfl) ?_
  have c_1 : ¬ (0 ≤ d0 ∧ d0 < w 2) := hcd
  refine z_callB (vx_runV (As := [.int (iI d0)]) (rest := []) ⟨hx, hb, hml, hown, hts⟩ (cx_X3_get l hst (i0 := d0) hR.rowD (hR.lstD (z_eD hK hS)) (by first | with_reducible assumption | with_reducible exact hwR _ | omega | exact ⟨by omega, by omega⟩) c_1) (cwV 1 hts (lw_V q291 q292 q293 q48 q294) rfl rfl rfl hd_X3_get ⟨Nat.le_of_ble_eq_true rfl, Nat.le_of_ble_eq_true rfl⟩) (z_preV hK hS (zN_le hAn hS) hR.rowD rfl rfl) rfl rfl hl.1 rfl (lv_room (Nat.le_of_ble_eq_true rfl)) dX2_document_5 ⟨Nat.le_of_ble_eq_true rfl, Nat.le_of_ble_eq_true rfl⟩) hS (zN_le hAn hS) (fun _ _ => rfl) htab hlocks (fun E hE9 => hE9) (by first | exact Nat.le_of_ble_eq_true rfl | omega) (by first | exact Nat.le_of_ble_eq_true rfl | omega)
theorem hn_X2_branch : yX2_branch.cls ≠ "java/lang/invoke/MethodHandle" ∧ yX2_branch.cls ≠ "java/lang/invoke/VarHandle" ∧ (parseMethodDescriptor yX2_branch.desc).map (fun d => d.parameters.length) = some 2 := by decide +kernel
theorem hd_X2_branch : yX2_branch.cls = "CheckoutDesk$Store" ∧ yX2_branch.cls ≠ "java/lang/invoke/MethodHandle" ∧ yX2_branch.cls ≠ "java/lang/invoke/VarHandle" ∧ (parseMethodDescriptor yX2_branch.desc).map (fun d => d.parameters.length) = some 2 := ⟨rfl, hn_X2_branch⟩
abbrev rm_X2_branch : Room := { frames := 11, cells := 0, slots := 0, locals := 182 }
set_option maxHeartbeats 1000000 in
theorem cg_X2_branch (l : Launch) {G : zG} {H0 : Heap} {w : Int → Int} {ad : zKey → Nat} {mc : Int → Int} {cp : Int → Nat} {cl : Bool} {F : Nat → Prop} (hR : zR G w ad mc cp cl F H0) {d0 b0 : Int} (h0 : inR d0) (h1 : inR b0) (hcd : (0 ≤ d0 ∧ d0 < w 2) ∧ 0 ≤ b0 ∧ b0 < w (5 + 32 * d0 + 1)) : zM l yX2_branch (ws_ yX2_branch cX2_branch 3 (some (.object "CheckoutDesk$Branch"))) rm_X2_branch G (zN H0) [.ref (ad kst), .int (iI d0), .int (iI b0)] H0 (fun r H1 => r = some (.ref (ad (kbr d0 b0))) ∧ H1 = H0) (fun _ => False) := by
  refine z_enter (by decide +kernel) (Nat.le_of_ble_eq_true rfl) ?_
  intro p e s m args below meth c ls hx hb hret hml hown hts hlocks htab hnm hK hH hl
  subst hH
  have hAn : ∀ q, s.heap.size ≤ q → (zN s.heap) q := fun _ h => h
  have hS : va_S (zN s.heap) s.heap s.heap [] := va_S.rf
  have hS0 := hS
  have hsz_0 : s.heap.size ≤ s.heap.size := Nat.le_refl _
  have hl : lv_has ls 3 [(0, .ref (ad kst)), (1, .int (iI d0)), (2, .int (iI b0))] := hl
  obtain ⟨hD, hV, hL_, hB, hwR⟩ := hR.n
  refine lv_aload_n hx hb dX2_branch_0 rfl (lv_at hl 0 rfl) ?_
  refine lv_iload_n hx hb dX2_branch_1 rfl (lv_at hl 1 rfl) ?_
  have c_1 : 0 ≤ d0 ∧ d0 < w 2 := hcd.1
  refine z_callp (vx_runV (As := [.int (iI d0)]) (rest := []) ⟨hx, hb, hml, hown, hts⟩ (cg_X2_document l hR (d0 := d0) (by first | with_reducible assumption | with_reducible exact hwR _ | omega | exact ⟨by omega, by omega⟩) c_1) (cwV 1 hts (lw_V q942 q943 q944 q47 q945) rfl rfl rfl hd_X2_document ⟨Nat.le_of_ble_eq_true rfl, Nat.le_of_ble_eq_true rfl⟩) (z_preV hK hS (zN_le hAn hS) hR.st rfl rfl) rfl rfl hl.1 rfl (lv_room (Nat.le_of_ble_eq_true rfl)) dX2_branch_2 ⟨Nat.le_of_ble_eq_true rfl, Nat.le_of_ble_eq_true rfl⟩) hS (zN_le hAn hS) rfl rfl (fun locs hS => ?_)
  refine z_getN (k := 2) hx hb hts in_X14 hown hK (hR.doc (d := d0) (by first | with_reducible assumption | exact ⟨by omega, by omega⟩ | exact ⟨⟨by omega, by omega⟩, by omega, by omega⟩ | exact ⟨⟨⟨by omega, by omega⟩, by omega, by omega⟩, by first | assumption | omega⟩)) rfl (by decide) q1363 rfl (v := .ref (ad (krow (3 + d0)))) rfl dX2_branch_5 ?_
  refine lv_iload_n hx hb dX2_branch_8 rfl (lv_at hl 2 rfl) ?_
  have c_2 : 0 ≤ b0 ∧ b0 < w (5 + 32 * d0 + 1) := hcd.2
  refine z_callp (vx_runV (As := [.int (iI b0)]) (rest := []) ⟨hx, hb, hml, hown, hts⟩ (cg_X3_get l (i0 := b0) (x0 := ad (kbr d0 b0)) (hR.rowB (d := d0) (by first | with_reducible assumption | exact ⟨by omega, by omega⟩ | exact ⟨⟨by omega, by omega⟩, by omega, by omega⟩ | exact ⟨⟨⟨by omega, by omega⟩, by omega, by omega⟩, by first | assumption | omega⟩)) (hR.lstB (z_eD hK hS) (d := d0) (by first | with_reducible assumption | exact ⟨by omega, by omega⟩ | exact ⟨⟨by omega, by omega⟩, by omega, by omega⟩ | exact ⟨⟨⟨by omega, by omega⟩, by omega, by omega⟩, by first | assumption | omega⟩)) (by first | with_reducible assumption | with_reducible exact hwR _ | omega | exact ⟨by omega, by omega⟩) c_2 (zad_n (ad := ad) (fun z => kbr d0 z) (by omega))) (cwV 1 hts (lw_V q291 q292 q293 q48 q294) rfl rfl rfl hd_X3_get ⟨Nat.le_of_ble_eq_true rfl, Nat.le_of_ble_eq_true rfl⟩) (z_preV hK hS (zN_le hAn hS) (hR.rowB (d := d0) (by first | with_reducible assumption | exact ⟨by omega, by omega⟩ | exact ⟨⟨by omega, by omega⟩, by omega, by omega⟩ | exact ⟨⟨⟨by omega, by omega⟩, by omega, by omega⟩, by first | assumption | omega⟩)) rfl rfl) rfl rfl hl.1 rfl (lv_room (Nat.le_of_ble_eq_true rfl)) dX2_branch_9 ⟨Nat.le_of_ble_eq_true rfl, Nat.le_of_ble_eq_true rfl⟩) hS (zN_le hAn hS) rfl rfl (fun locs hS => ?_)
  refine va_castE (nm := "CheckoutDesk$Branch") hx hb hown (hts _ q946) (z_recv (q := (RX10, TX10, 2)) hK (hR.br (d := d0) (b := b0) (by first | with_reducible assumption | exact ⟨by omega, by omega⟩ | exact ⟨⟨by omega, by omega⟩, by omega, by omega⟩ | exact ⟨⟨⟨by omega, by omega⟩, by omega, by omega⟩, by first | assumption | omega⟩)) rfl) dX2_branch_12 ?_
  exact z_aret (r := some (ad (kbr d0 b0))) hx hb hret (Or.inl ⟨_, rfl⟩) hlocks hS ⟨rfl, rfl⟩ (Nat.le_of_ble_eq_true rfl) (Nat.le_of_ble_eq_true rfl) dX2_branch_15
abbrev rx_cx_X2_branch : Room := { frames := 11, cells := 1, slots := 6, locals := 182 }
set_option maxHeartbeats 1000000 in
theorem cx_X2_branch (l : Launch) (hst : l.stackTraces = false) {G : zG} {H0 : Heap} {w : Int → Int} {ad : zKey → Nat} {mc : Int → Int} {cp : Int → Nat} {cl : Bool} {F : Nat → Prop} (hR : zR G w ad mc cp cl F H0) {d0 b0 : Int} (h0 : inR d0) (h1 : inR b0) (hcd : ¬ ((0 ≤ d0 ∧ d0 < w 2) ∧ 0 ≤ b0 ∧ b0 < w (5 + 32 * d0 + 1))) : zM l yX2_branch (ws_ yX2_branch cX2_branch 3 (some (.object "CheckoutDesk$Branch"))) rx_cx_X2_branch G (zN H0) [.ref (ad kst), .int (iI d0), .int (iI b0)] H0 (fun _ _ => False) (fun E => E = "java/lang/IndexOutOfBoundsException") := by
  refine z_enter (by decide +kernel) (Nat.le_of_ble_eq_true rfl) ?_
  intro p e s m args below meth c ls hx hb hret hml hown hts hlocks htab hnm hK hH hl
  subst hH
  have hAn : ∀ q, s.heap.size ≤ q → (zN s.heap) q := fun _ h => h
  have hS : va_S (zN s.heap) s.heap s.heap [] := va_S.rf
  have hS0 := hS
  have hsz_0 : s.heap.size ≤ s.heap.size := Nat.le_refl _
  have hl : lv_has ls 3 [(0, .ref (ad kst)), (1, .int (iI d0)), (2, .int (iI b0))] := hl
  obtain ⟨hD, hV, hL_, hB, hwR⟩ := hR.n
  refine lv_aload_n hx hb dX2_branch_0 rfl (lv_at hl 0 rfl) ?_
  refine lv_iload_n hx hb dX2_branch_1 rfl (lv_at hl 1 rfl) ?_
  by_cases c_1 : 0 ≤ d0 ∧ d0 < w 2
  rotate_left
  · refine z_callB (vx_runV (As := [.int (iI d0)]) (rest := []) ⟨hx, hb, hml, hown, hts⟩ (cx_X2_document l hst hR (d0 := d0) (by first | with_reducible assumption | with_reducible exact hwR _ | omega | exact ⟨by omega, by omega⟩) c_1) (cwV 1 hts (lw_V q942 q943 q944 q47 q945) rfl rfl rfl hd_X2_document ⟨Nat.le_of_ble_eq_true rfl, Nat.le_of_ble_eq_true rfl⟩) (z_preV hK hS (zN_le hAn hS) hR.st rfl rfl) rfl rfl hl.1 rfl (lv_room (Nat.le_of_ble_eq_true rfl)) dX2_branch_2 ⟨Nat.le_of_ble_eq_true rfl, Nat.le_of_ble_eq_true rfl⟩) hS (zN_le hAn hS) (fun _ _ => rfl) htab hlocks (fun E hE9 => hE9) (by first | exact Nat.le_of_ble_eq_true rfl | omega) (by first | exact Nat.le_of_ble_eq_true rfl | omega)
  refine z_callp (vx_runV (As := [.int (iI d0)]) (rest := []) ⟨hx, hb, hml, hown, hts⟩ (cg_X2_document l hR (d0 := d0) (by first | with_reducible assumption | with_reducible exact hwR _ | omega | exact ⟨by omega, by omega⟩) c_1) (cwV 1 hts (lw_V q942 q943 q944 q47 q945) rfl rfl rfl hd_X2_document ⟨Nat.le_of_ble_eq_true rfl, Nat.le_of_ble_eq_true rfl⟩) (z_preV hK hS (zN_le hAn hS) hR.st rfl rfl) rfl rfl hl.1 rfl (lv_room (Nat.le_of_ble_eq_true rfl)) dX2_branch_2 ⟨Nat.le_of_ble_eq_true rfl, Nat.le_of_ble_eq_true rfl⟩) hS (zN_le hAn hS) rfl rfl (fun locs hS => ?_)
  refine z_getN (k := 2) hx hb hts in_X14 hown hK (hR.doc (d := d0) (by first | with_reducible assumption | exact ⟨by omega, by omega⟩ | exact ⟨⟨by omega, by omega⟩, by omega, by omega⟩ | exact ⟨⟨⟨by omega, by omega⟩, by omega, by omega⟩, by first | assumption | omega⟩)) rfl (by decide) q1363 rfl (v := .ref (ad (krow (3 + d0)))) rfl dX2_branch_5 ?_
  refine lv_iload_n hx hb dX2_branch_8 rfl (lv_at hl 2 rfl) ?_
  have c_2 : ¬ (0 ≤ b0 ∧ b0 < w (5 + 32 * d0 + 1)) := fun q => hcd ⟨by assumption, q⟩
  refine z_callB (vx_runV (As := [.int (iI b0)]) (rest := []) ⟨hx, hb, hml, hown, hts⟩ (cx_X3_get l hst (i0 := b0) (hR.rowB (d := d0) (by first | with_reducible assumption | exact ⟨by omega, by omega⟩ | exact ⟨⟨by omega, by omega⟩, by omega, by omega⟩ | exact ⟨⟨⟨by omega, by omega⟩, by omega, by omega⟩, by first | assumption | omega⟩)) (hR.lstB (z_eD hK hS) (d := d0) (by first | with_reducible assumption | exact ⟨by omega, by omega⟩ | exact ⟨⟨by omega, by omega⟩, by omega, by omega⟩ | exact ⟨⟨⟨by omega, by omega⟩, by omega, by omega⟩, by first | assumption | omega⟩)) (by first | with_reducible assumption | with_reducible exact hwR _ | omega | exact ⟨by omega, by omega⟩) c_2) (cwV 1 hts (lw_V q291 q292 q293 q48 q294) rfl rfl rfl hd_X3_get ⟨Nat.le_of_ble_eq_true rfl, Nat.le_of_ble_eq_true rfl⟩) (z_preV hK hS (zN_le hAn hS) (hR.rowB (d := d0) (by first | with_reducible assumption | exact ⟨by omega, by omega⟩ | exact ⟨⟨by omega, by omega⟩, by omega, by omega⟩ | exact ⟨⟨⟨by omega, by omega⟩, by omega, by omega⟩, by first | assumption | omega⟩)) rfl rfl) rfl rfl hl.1 rfl (lv_room (Nat.le_of_ble_eq_true rfl)) dX2_branch_9 ⟨Nat.le_of_ble_eq_true rfl, Nat.le_of_ble_eq_true rfl⟩) hS (zN_le hAn hS) (fun _ _ => rfl) htab hlocks (fun E hE9 => hE9) (by first | exact Nat.le_of_ble_eq_true rfl | omega) (by first | exact Nat.le_of_ble_eq_true rfl | omega)
theorem hn_X2_version : yX2_version.cls ≠ "java/lang/invoke/MethodHandle" ∧ yX2_version.cls ≠ "java/lang/invoke/VarHandle" ∧ (parseMethodDescriptor yX2_version.desc).map (fun d => d.parameters.length) = some 1 := by decide +kernel
theorem hd_X2_version : yX2_version.cls = "CheckoutDesk$Store" ∧ yX2_version.cls ≠ "java/lang/invoke/MethodHandle" ∧ yX2_version.cls ≠ "java/lang/invoke/VarHandle" ∧ (parseMethodDescriptor yX2_version.desc).map (fun d => d.parameters.length) = some 1 := ⟨rfl, hn_X2_version⟩
abbrev rm_X2_version : Room := { frames := 10, cells := 0, slots := 0, locals := 161 }
set_option maxHeartbeats 1000000 in
theorem cg_X2_version (l : Launch) {G : zG} {H0 : Heap} {w : Int → Int} {ad : zKey → Nat} {mc : Int → Int} {cp : Int → Nat} {cl : Bool} {F : Nat → Prop} (hR : zR G w ad mc cp cl F H0) {v0 : Int} (h0 : inR v0) (hcd : (0 ≤ v0 ∧ v0 < w 3) ∧ w (261 + 9 * v0 + 8) = 1) : zM l yX2_version (ws_ yX2_version cX2_version 3 (some (.object "CheckoutDesk$Version"))) rm_X2_version G (zN H0) [.ref (ad kst), .int (iI v0)] H0 (fun r H1 => r = some (.ref (ad (kver v0))) ∧ H1 = H0) (fun _ => False) := by
  refine z_enter (by decide +kernel) (Nat.le_of_ble_eq_true rfl) ?_
  intro p e s m args below meth c ls hx hb hret hml hown hts hlocks htab hnm hK hH hl
  subst hH
  have hAn : ∀ q, s.heap.size ≤ q → (zN s.heap) q := fun _ h => h
  have hS : va_S (zN s.heap) s.heap s.heap [] := va_S.rf
  have hS0 := hS
  have hsz_0 : s.heap.size ≤ s.heap.size := Nat.le_refl _
  have hl : lv_has ls 3 [(0, .ref (ad kst)), (1, .int (iI v0))] := hl
  obtain ⟨hD, hV, hL_, hB, hwR⟩ := hR.n
  refine lv_aload_n hx hb dX2_version_0 rfl (lv_at hl 0 rfl) ?_
  refine z_get (k := 1) hx hb hts in_X2 hown hK hR.st rfl (by decide) q168 rfl (v := .ref (ad (krow 1))) rfl dX2_version_1 ?_
  refine lv_iload_n hx hb dX2_version_4 rfl (lv_at hl 1 rfl) ?_
  have c_1 : 0 ≤ v0 ∧ v0 < w 3 := hcd.1
  refine z_callp (vx_runV (As := [.int (iI v0)]) (rest := []) ⟨hx, hb, hml, hown, hts⟩ (cg_X3_get l (i0 := v0) (x0 := ad (kver v0)) hR.rowV (hR.lstV (z_eD hK hS)) (by first | with_reducible assumption | with_reducible exact hwR _ | omega | exact ⟨by omega, by omega⟩) c_1 (zad_n (ad := ad) (fun z => kver z) (by omega))) (cwV 1 hts (lw_V q291 q292 q293 q48 q294) rfl rfl rfl hd_X3_get ⟨Nat.le_of_ble_eq_true rfl, Nat.le_of_ble_eq_true rfl⟩) (z_preV hK hS (zN_le hAn hS) hR.rowV rfl rfl) rfl rfl hl.1 rfl (lv_room (Nat.le_of_ble_eq_true rfl)) dX2_version_5 ⟨Nat.le_of_ble_eq_true rfl, Nat.le_of_ble_eq_true rfl⟩) hS (zN_le hAn hS) rfl rfl (fun locs hS => ?_)
  refine va_castE (nm := "CheckoutDesk$Version") hx hb hown (hts _ q737) (z_recv (q := (RX12, TX12, 7)) hK (hR.ver (v := v0) (by first | with_reducible assumption | exact ⟨by omega, by omega⟩ | exact ⟨⟨by omega, by omega⟩, by omega, by omega⟩ | exact ⟨⟨⟨by omega, by omega⟩, by omega, by omega⟩, by first | assumption | omega⟩)) rfl) dX2_version_8 ?_
  refine lv_astore_n (lv' := [(2, .ref (ad (kver v0))), (0, .ref (ad kst)), (1, .int (iI v0))]) hx hb dX2_version_11 rfl hl (by decide) rfl (fun ls hl => ?_)
  refine lv_aload_n hx hb dX2_version_12 rfl (lv_at hl 0 rfl) ?_
  refine z_getN (k := 6) hx hb hts in_X12 hown hK (hR.ver (v := v0) (by first | with_reducible assumption | exact ⟨by omega, by omega⟩ | exact ⟨⟨by omega, by omega⟩, by omega, by omega⟩ | exact ⟨⟨⟨by omega, by omega⟩, by omega, by omega⟩, by first | assumption | omega⟩)) rfl (by decide) q1198 rfl (v := .int (iI (bI (zGn w v0)))) rfl dX2_version_13 ?_
  refine z_join (pc2 := 24) (nL := 3) (lv := [(2, .ref (ad (kver v0))), (0, .ref (ad kst)), (1, .int (iI v0))]) (st2 := [.int (iI (bI (!(zGn w v0))))]) hS (fun J_2 => ?_) (fun locs ls hS hl => ?_)
  · refine z_ifb_ne (b := zGn w v0) (tgt := 23) hx hb dX2_version_16 (by decide) (fun c_3 => ?_) (fun c_3 => ?_)
    · refine lv_iconst (v := iI 0) hx hb dX2_version_23 rfl ?_
      refine z_top (x := 0) (y := bI (!(zGn w v0))) (by simp [bI, c_3]) ?_
      exact J_2 _ ls hS (lv_sub hl [0, 1, 2] rfl)
    · refine lv_iconst (v := iI 1) hx hb dX2_version_19 rfl ?_
      refine lv_goto (tgt := 24) hx hb dX2_version_20 (by decide) ?_
      refine z_top (x := 1) (y := bI (!(zGn w v0))) (by simp [bI, c_3]) ?_
      exact J_2 _ ls hS (lv_sub hl [0, 1, 2] rfl)
  · have c_4 : (!(zGn w v0)) = true := (by simp [zGn, hcd.2])
    refine z_callp0 (vx_runSN (As := [.int (iI (bI (!(zGn w v0))))]) (rest := []) ⟨hx, hb, hml, hown, hts⟩ (cg_X1_requireIndex l (b0 := !(zGn w v0)) c_4) ⟨va_cnB 1 hts (lw_meth q300) rfl rfl rfl (hK.2.1 _ q1030 rfl) (hts _ q43) hn_X1_requireIndex ⟨Nat.le_of_ble_eq_true rfl, Nat.le_of_ble_eq_true rfl⟩, hts _ q299, trivial⟩ (z_preS hK hS (zN_le hAn hS)) rfl rfl hl.1 rfl (lv_room (Nat.le_of_ble_eq_true rfl)) dX2_version_24 ⟨Nat.le_of_ble_eq_true rfl, Nat.le_of_ble_eq_true rfl⟩) hS (zN_le hAn hS) rfl rfl (fun locs hS => ?_)
    refine lv_aload_n hx hb dX2_version_27 rfl (lv_at hl 0 rfl) ?_
    exact z_aret (r := some (ad (kver v0))) hx hb hret (Or.inl ⟨_, rfl⟩) hlocks hS ⟨rfl, rfl⟩ (Nat.le_of_ble_eq_true rfl) (Nat.le_of_ble_eq_true rfl) dX2_version_28
abbrev rx_cx_X2_version : Room := { frames := 10, cells := 1, slots := 6, locals := 161 }
set_option maxHeartbeats 1000000 in
theorem cx_X2_version (l : Launch) (hst : l.stackTraces = false) {G : zG} {H0 : Heap} {w : Int → Int} {ad : zKey → Nat} {mc : Int → Int} {cp : Int → Nat} {cl : Bool} {F : Nat → Prop} (hR : zR G w ad mc cp cl F H0) {v0 : Int} (h0 : inR v0) (hcd : ¬ ((0 ≤ v0 ∧ v0 < w 3) ∧ w (261 + 9 * v0 + 8) = 1)) : zM l yX2_version (ws_ yX2_version cX2_version 3 (some (.object "CheckoutDesk$Version"))) rx_cx_X2_version G (zN H0) [.ref (ad kst), .int (iI v0)] H0 (fun _ _ => False) (fun E => E = "java/lang/IndexOutOfBoundsException") := by
  refine z_enter (by decide +kernel) (Nat.le_of_ble_eq_true rfl) ?_
  intro p e s m args below meth c ls hx hb hret hml hown hts hlocks htab hnm hK hH hl
  subst hH
  have hAn : ∀ q, s.heap.size ≤ q → (zN s.heap) q := fun _ h => h
  have hS : va_S (zN s.heap) s.heap s.heap [] := va_S.rf
  have hS0 := hS
  have hsz_0 : s.heap.size ≤ s.heap.size := Nat.le_refl _
  have hl : lv_has ls 3 [(0, .ref (ad kst)), (1, .int (iI v0))] := hl
  obtain ⟨hD, hV, hL_, hB, hwR⟩ := hR.n
  refine lv_aload_n hx hb dX2_version_0 rfl (lv_at hl 0 rfl) ?_
  refine z_get (k := 1) hx hb hts in_X2 hown hK hR.st rfl (by decide) q168 rfl (v := .ref (ad (krow 1))) rfl dX2_version_1 ?_
  refine lv_iload_n hx hb dX2_version_4 rfl (lv_at hl 1 rfl) ?_
  by_cases c_1 : 0 ≤ v0 ∧ v0 < w 3
  rotate_left
  · refine z_callB (vx_runV (As := [.int (iI v0)]) (rest := []) ⟨hx, hb, hml, hown, hts⟩ (cx_X3_get l hst (i0 := v0) hR.rowV (hR.lstV (z_eD hK hS)) (by first | with_reducible assumption | with_reducible exact hwR _ | omega | exact ⟨by omega, by omega⟩) c_1) (cwV 1 hts (lw_V q291 q292 q293 q48 q294) rfl rfl rfl hd_X3_get ⟨Nat.le_of_ble_eq_true rfl, Nat.le_of_ble_eq_true rfl⟩) (z_preV hK hS (zN_le hAn hS) hR.rowV rfl rfl) rfl rfl hl.1 rfl (lv_room (Nat.le_of_ble_eq_true rfl)) dX2_version_5 ⟨Nat.le_of_ble_eq_true rfl, Nat.le_of_ble_eq_true rfl⟩) hS (zN_le hAn hS) (fun _ _ => rfl) htab hlocks (fun E hE9 => hE9) (by first | exact Nat.le_of_ble_eq_true rfl | omega) (by first | exact Nat.le_of_ble_eq_true rfl | omega)
  refine z_callp (vx_runV (As := [.int (iI v0)]) (rest := []) ⟨hx, hb, hml, hown, hts⟩ (cg_X3_get l (i0 := v0) (x0 := ad (kver v0)) hR.rowV (hR.lstV (z_eD hK hS)) (by first | with_reducible assumption | with_reducible exact hwR _ | omega | exact ⟨by omega, by omega⟩) c_1 (zad_n (ad := ad) (fun z => kver z) (by omega))) (cwV 1 hts (lw_V q291 q292 q293 q48 q294) rfl rfl rfl hd_X3_get ⟨Nat.le_of_ble_eq_true rfl, Nat.le_of_ble_eq_true rfl⟩) (z_preV hK hS (zN_le hAn hS) hR.rowV rfl rfl) rfl rfl hl.1 rfl (lv_room (Nat.le_of_ble_eq_true rfl)) dX2_version_5 ⟨Nat.le_of_ble_eq_true rfl, Nat.le_of_ble_eq_true rfl⟩) hS (zN_le hAn hS) rfl rfl (fun locs hS => ?_)
  refine va_castE (nm := "CheckoutDesk$Version") hx hb hown (hts _ q737) (z_recv (q := (RX12, TX12, 7)) hK (hR.ver (v := v0) (by first | with_reducible assumption | exact ⟨by omega, by omega⟩ | exact ⟨⟨by omega, by omega⟩, by omega, by omega⟩ | exact ⟨⟨⟨by omega, by omega⟩, by omega, by omega⟩, by first | assumption | omega⟩)) rfl) dX2_version_8 ?_
  refine lv_astore_n (lv' := [(2, .ref (ad (kver v0))), (0, .ref (ad kst)), (1, .int (iI v0))]) hx hb dX2_version_11 rfl hl (by decide) rfl (fun ls hl => ?_)
  refine lv_aload_n hx hb dX2_version_12 rfl (lv_at hl 0 rfl) ?_
  refine z_getN (k := 6) hx hb hts in_X12 hown hK (hR.ver (v := v0) (by first | with_reducible assumption | exact ⟨by omega, by omega⟩ | exact ⟨⟨by omega, by omega⟩, by omega, by omega⟩ | exact ⟨⟨⟨by omega, by omega⟩, by omega, by omega⟩, by first | assumption | omega⟩)) rfl (by decide) q1198 rfl (v := .int (iI (bI (zGn w v0)))) rfl dX2_version_13 ?_
  refine z_join (pc2 := 24) (nL := 3) (lv := [(2, .ref (ad (kver v0))), (0, .ref (ad kst)), (1, .int (iI v0))]) (st2 := [.int (iI (bI (!(zGn w v0))))]) hS (fun J_2 => ?_) (fun locs ls hS hl => ?_)
  · refine z_ifb_ne (b := zGn w v0) (tgt := 23) hx hb dX2_version_16 (by decide) (fun c_3 => ?_) (fun c_3 => ?_)
    · refine lv_iconst (v := iI 0) hx hb dX2_version_23 rfl ?_
      refine z_top (x := 0) (y := bI (!(zGn w v0))) (by simp [bI, c_3]) ?_
      exact J_2 _ ls hS (lv_sub hl [0, 1, 2] rfl)
    · refine lv_iconst (v := iI 1) hx hb dX2_version_19 rfl ?_
      refine lv_goto (tgt := 24) hx hb dX2_version_20 (by decide) ?_
      refine z_top (x := 1) (y := bI (!(zGn w v0))) (by simp [bI, c_3]) ?_
      exact J_2 _ ls hS (lv_sub hl [0, 1, 2] rfl)
  · have c_4 : ¬ ((!(zGn w v0)) = true) := fun q => hcd ⟨by assumption, by simpa [zGn] using q⟩
    refine z_callB (vx_runSN (As := [.int (iI (bI (!(zGn w v0))))]) (rest := []) ⟨hx, hb, hml, hown, hts⟩ (cx_X1_requireIndex l hst (b0 := !(zGn w v0)) c_4) ⟨va_cnB 1 hts (lw_meth q300) rfl rfl rfl (hK.2.1 _ q1030 rfl) (hts _ q43) hn_X1_requireIndex ⟨Nat.le_of_ble_eq_true rfl, Nat.le_of_ble_eq_true rfl⟩, hts _ q299, trivial⟩ (z_preS hK hS (zN_le hAn hS)) rfl rfl hl.1 rfl (lv_room (Nat.le_of_ble_eq_true rfl)) dX2_version_24 ⟨Nat.le_of_ble_eq_true rfl, Nat.le_of_ble_eq_true rfl⟩) hS (zN_le hAn hS) (fun _ _ => rfl) htab hlocks (fun E hE9 => hE9) (by first | exact Nat.le_of_ble_eq_true rfl | omega) (by first | exact Nat.le_of_ble_eq_true rfl | omega)
theorem hn_X2_isWriter : yX2_isWriter.cls ≠ "java/lang/invoke/MethodHandle" ∧ yX2_isWriter.cls ≠ "java/lang/invoke/VarHandle" ∧ (parseMethodDescriptor yX2_isWriter.desc).map (fun d => d.parameters.length) = some 2 := by decide +kernel
theorem hd_X2_isWriter : yX2_isWriter.cls = "CheckoutDesk$Store" ∧ yX2_isWriter.cls ≠ "java/lang/invoke/MethodHandle" ∧ yX2_isWriter.cls ≠ "java/lang/invoke/VarHandle" ∧ (parseMethodDescriptor yX2_isWriter.desc).map (fun d => d.parameters.length) = some 2 := ⟨rfl, hn_X2_isWriter⟩
abbrev rm_X2_isWriter : Room := { frames := 10, cells := 0, slots := 0, locals := 161 }
set_option maxHeartbeats 1000000 in
theorem cg_X2_isWriter (l : Launch) {G : zG} {H0 : Heap} {w : Int → Int} {ad : zKey → Nat} {mc : Int → Int} {cp : Int → Nat} {cl : Bool} {F : Nat → Prop} (hR : zR G w ad mc cp cl F H0) {p0 d0 : Int} (hp0 : 0 ≤ p0 ∧ p0 ≤ 5) (hd0 : 0 ≤ d0 ∧ d0 < w 2) : zM l yX2_isWriter (ws_ yX2_isWriter cX2_isWriter 3 (some .boolean)) rm_X2_isWriter G (zN H0) [.ref (ad kst), .int (iI p0), .int (iI d0)] H0 (fun r H1 => r = some (.int (iI (bI (tw_writes w p0 d0)))) ∧ H1 = H0) (fun _ => False) := by
  refine z_enter (by decide +kernel) (Nat.le_of_ble_eq_true rfl) ?_
  intro p e s m args below meth c ls hx hb hret hml hown hts hlocks htab hnm hK hH hl
  subst hH
  have hAn : ∀ q, s.heap.size ≤ q → (zN s.heap) q := fun _ h => h
  have hS : va_S (zN s.heap) s.heap s.heap [] := va_S.rf
  have hS0 := hS
  have hsz_0 : s.heap.size ≤ s.heap.size := Nat.le_refl _
  have hl : lv_has ls 3 [(0, .ref (ad kst)), (1, .int (iI p0)), (2, .int (iI d0))] := hl
  obtain ⟨hD, hV, hL_, hB, hwR⟩ := hR.n
  have hrt : inR (zRt w d0 p0) := by unfold zRt; split; decide; exact hwR _
  refine lv_aload_n hx hb dX2_isWriter_0 rfl (lv_at hl 0 rfl) ?_
  refine z_get (k := 0) hx hb hts in_X2 hown hK hR.st rfl (by decide) q165 rfl (v := .ref (ad (krow 0))) rfl dX2_isWriter_1 ?_
  refine lv_iload_n hx hb dX2_isWriter_4 rfl (lv_at hl 2 rfl) ?_
  have c_1 : 0 ≤ d0 ∧ d0 < w 2 := hd0
  refine z_callp (vx_runV (As := [.int (iI d0)]) (rest := []) ⟨hx, hb, hml, hown, hts⟩ (cg_X3_get l (i0 := d0) (x0 := ad (kdoc d0)) hR.rowD (hR.lstD (z_eD hK hS)) (by first | with_reducible assumption | with_reducible exact hwR _ | omega | exact ⟨by omega, by omega⟩) c_1 (zad_n (ad := ad) (fun z => kdoc z) (by omega))) (cwV 1 hts (lw_V q291 q292 q293 q48 q294) rfl rfl rfl hd_X3_get ⟨Nat.le_of_ble_eq_true rfl, Nat.le_of_ble_eq_true rfl⟩) (z_preV hK hS (zN_le hAn hS) hR.rowD rfl rfl) rfl rfl hl.1 rfl (lv_room (Nat.le_of_ble_eq_true rfl)) dX2_isWriter_5 ⟨Nat.le_of_ble_eq_true rfl, Nat.le_of_ble_eq_true rfl⟩) hS (zN_le hAn hS) rfl rfl (fun locs hS => ?_)
  refine va_castE (nm := "CheckoutDesk$Document") hx hb hown (hts _ q385) (z_recv (q := (RX14, TX14, 3)) hK (hR.doc (d := d0) (by first | with_reducible assumption | exact ⟨by omega, by omega⟩ | exact ⟨⟨by omega, by omega⟩, by omega, by omega⟩ | exact ⟨⟨⟨by omega, by omega⟩, by omega, by omega⟩, by first | assumption | omega⟩)) rfl) dX2_isWriter_8 ?_
  refine z_getN (k := 1) hx hb hts in_X14 hown hK (hR.doc (d := d0) (by first | with_reducible assumption | exact ⟨by omega, by omega⟩ | exact ⟨⟨by omega, by omega⟩, by omega, by omega⟩ | exact ⟨⟨⟨by omega, by omega⟩, by omega, by omega⟩, by first | assumption | omega⟩)) rfl (by decide) q1359 rfl (v := .ref (ad (krt d0))) rfl dX2_isWriter_11 ?_
  refine lv_iload_n hx hb dX2_isWriter_14 rfl (lv_at hl 1 rfl) ?_
  refine z_ildZ (i := p0) hx hb hK (hR.rt (d := d0) (by first | with_reducible assumption | exact ⟨by omega, by omega⟩ | exact ⟨⟨by omega, by omega⟩, by omega, by omega⟩ | exact ⟨⟨⟨by omega, by omega⟩, by omega, by omega⟩, by first | assumption | omega⟩)) ⟨by omega, by omega⟩ (by decide) dX2_isWriter_15 ?_
  refine lv_iconst (v := iI 2) hx hb dX2_isWriter_16 rfl ?_
  refine z_join (pc2 := 25) (nL := 3) (lv := [(0, .ref (ad kst)), (1, .int (iI p0)), (2, .int (iI d0))]) (st2 := [.int (iI (bI (decide ((zRt w d0) p0 = 2))))]) hS (fun J_2 => ?_) (fun locs ls hS hl => ?_)
  · refine z_icmp_ne (x := (zRt w d0) p0) (y := 2) (tgt := 24) hx hb (by first | with_reducible assumption | with_reducible exact hwR _ | omega | exact ⟨by omega, by omega⟩) (by decide) dX2_isWriter_17 (by decide) (fun c_3 => ?_) (fun c_3 => ?_)
    · refine lv_iconst (v := iI 0) hx hb dX2_isWriter_24 rfl ?_
      refine z_top (x := 0) (y := bI (decide ((zRt w d0) p0 = 2))) (by simp [bI, c_3]) ?_
      exact J_2 _ ls hS (lv_sub hl [0, 1, 2] rfl)
    · refine lv_iconst (v := iI 1) hx hb dX2_isWriter_20 rfl ?_
      refine lv_goto (tgt := 25) hx hb dX2_isWriter_21 (by decide) ?_
      refine z_top (x := 1) (y := bI (decide ((zRt w d0) p0 = 2))) (by simp [bI, c_3]) ?_
      exact J_2 _ ls hS (lv_sub hl [0, 1, 2] rfl)
  · exact z_iret hx hb hret (z_nar _) hlocks hS ⟨congrArg (fun z => some (Value.int (iI (bI z)))) (by unfold tw_writes; rw [zRt_right]), rfl⟩ (Nat.le_of_ble_eq_true rfl) (Nat.le_of_ble_eq_true rfl) dX2_isWriter_25
theorem hn_X2_maySee : yX2_maySee.cls ≠ "java/lang/invoke/MethodHandle" ∧ yX2_maySee.cls ≠ "java/lang/invoke/VarHandle" ∧ (parseMethodDescriptor yX2_maySee.desc).map (fun d => d.parameters.length) = some 2 := by decide +kernel
theorem hd_X2_maySee : yX2_maySee.cls = "CheckoutDesk$Store" ∧ yX2_maySee.cls ≠ "java/lang/invoke/MethodHandle" ∧ yX2_maySee.cls ≠ "java/lang/invoke/VarHandle" ∧ (parseMethodDescriptor yX2_maySee.desc).map (fun d => d.parameters.length) = some 2 := ⟨rfl, hn_X2_maySee⟩
abbrev rm_X2_maySee : Room := { frames := 10, cells := 0, slots := 0, locals := 161 }
set_option maxHeartbeats 1000000 in
theorem cg_X2_maySee (l : Launch) {G : zG} {H0 : Heap} {w : Int → Int} {ad : zKey → Nat} {mc : Int → Int} {cp : Int → Nat} {cl : Bool} {F : Nat → Prop} (hR : zR G w ad mc cp cl F H0) {p0 v0 : Int} (hp0 : 0 ≤ p0 ∧ p0 ≤ 5) (hv0 : 0 ≤ v0 ∧ v0 < w 3) (hVd : tVd w) : zM l yX2_maySee (ws_ yX2_maySee cX2_maySee 4 (some .boolean)) rm_X2_maySee G (zN H0) [.ref (ad kst), .int (iI p0), .ref (ad (kver v0))] H0 (fun r H1 => r = some (.int (iI (bI (!(zGn w v0) && tw_sees w p0 v0)))) ∧ H1 = H0) (fun _ => False) := by
  refine z_enter (by decide +kernel) (Nat.le_of_ble_eq_true rfl) ?_
  intro p e s m args below meth c ls hx hb hret hml hown hts hlocks htab hnm hK hH hl
  subst hH
  have hAn : ∀ q, s.heap.size ≤ q → (zN s.heap) q := fun _ h => h
  have hS : va_S (zN s.heap) s.heap s.heap [] := va_S.rf
  have hS0 := hS
  have hsz_0 : s.heap.size ≤ s.heap.size := Nat.le_refl _
  have hl : lv_has ls 4 [(0, .ref (ad kst)), (1, .int (iI p0)), (2, .ref (ad (kver v0)))] := hl
  obtain ⟨hD, hV, hL_, hB, hwR⟩ := hR.n
  have hvd := hVd v0 hv0.1 hv0.2
  have hrt : inR (zRt w (w (261 + 9 * v0)) p0) := by unfold zRt; split; decide; exact hwR _
  refine lv_aload_n hx hb dX2_maySee_0 rfl (lv_at hl 0 rfl) ?_
  refine z_get (k := 0) hx hb hts in_X2 hown hK hR.st rfl (by decide) q165 rfl (v := .ref (ad (krow 0))) rfl dX2_maySee_1 ?_
  refine lv_aload_n hx hb dX2_maySee_4 rfl (lv_at hl 2 rfl) ?_
  refine z_getN (k := 2) hx hb hts in_X12 hown hK (hR.ver (v := v0) (by first | with_reducible assumption | exact ⟨by omega, by omega⟩ | exact ⟨⟨by omega, by omega⟩, by omega, by omega⟩ | exact ⟨⟨⟨by omega, by omega⟩, by omega, by omega⟩, by first | assumption | omega⟩)) rfl (by decide) q1180 rfl (v := .int (iI (w (261 + 9 * v0)))) rfl dX2_maySee_5 ?_
  have c_1 : 0 ≤ w (261 + 9 * v0) ∧ w (261 + 9 * v0) < w 2 := hvd
  refine z_callp (vx_runV (As := [.int (iI (w (261 + 9 * v0)))]) (rest := []) ⟨hx, hb, hml, hown, hts⟩ (cg_X3_get l (i0 := w (261 + 9 * v0)) (x0 := ad (kdoc (w (261 + 9 * v0)))) hR.rowD (hR.lstD (z_eD hK hS)) (by first | with_reducible assumption | with_reducible exact hwR _ | omega | exact ⟨by omega, by omega⟩) c_1 (zad_n (ad := ad) (fun z => kdoc z) (by omega))) (cwV 1 hts (lw_V q291 q292 q293 q48 q294) rfl rfl rfl hd_X3_get ⟨Nat.le_of_ble_eq_true rfl, Nat.le_of_ble_eq_true rfl⟩) (z_preV hK hS (zN_le hAn hS) hR.rowD rfl rfl) rfl rfl hl.1 rfl (lv_room (Nat.le_of_ble_eq_true rfl)) dX2_maySee_8 ⟨Nat.le_of_ble_eq_true rfl, Nat.le_of_ble_eq_true rfl⟩) hS (zN_le hAn hS) rfl rfl (fun locs hS => ?_)
  refine va_castE (nm := "CheckoutDesk$Document") hx hb hown (hts _ q385) (z_recv (q := (RX14, TX14, 3)) hK (hR.doc (d := (w (261 + 9 * v0))) (by first | with_reducible assumption | exact ⟨by omega, by omega⟩ | exact ⟨⟨by omega, by omega⟩, by omega, by omega⟩ | exact ⟨⟨⟨by omega, by omega⟩, by omega, by omega⟩, by first | assumption | omega⟩)) rfl) dX2_maySee_11 ?_
  refine z_getN (k := 1) hx hb hts in_X14 hown hK (hR.doc (d := (w (261 + 9 * v0))) (by first | with_reducible assumption | exact ⟨by omega, by omega⟩ | exact ⟨⟨by omega, by omega⟩, by omega, by omega⟩ | exact ⟨⟨⟨by omega, by omega⟩, by omega, by omega⟩, by first | assumption | omega⟩)) rfl (by decide) q1359 rfl (v := .ref (ad (krt (w (261 + 9 * v0))))) rfl dX2_maySee_14 ?_
  refine lv_iload_n hx hb dX2_maySee_17 rfl (lv_at hl 1 rfl) ?_
  refine z_ildZ (i := p0) hx hb hK (hR.rt (d := (w (261 + 9 * v0))) (by first | with_reducible assumption | exact ⟨by omega, by omega⟩ | exact ⟨⟨by omega, by omega⟩, by omega, by omega⟩ | exact ⟨⟨⟨by omega, by omega⟩, by omega, by omega⟩, by first | assumption | omega⟩)) ⟨by omega, by omega⟩ (by decide) dX2_maySee_18 ?_
  refine lv_istore_n (lv' := [(3, .int (iI ((zRt w (w (261 + 9 * v0))) p0))), (0, .ref (ad kst)), (1, .int (iI p0)), (2, .ref (ad (kver v0)))]) hx hb dX2_maySee_19 rfl hl (by decide) rfl (fun ls hl => ?_)
  refine lv_aload_n hx hb dX2_maySee_20 rfl (lv_at hl 3 rfl) ?_
  refine z_getN (k := 6) hx hb hts in_X12 hown hK (hR.ver (v := v0) (by first | with_reducible assumption | exact ⟨by omega, by omega⟩ | exact ⟨⟨by omega, by omega⟩, by omega, by omega⟩ | exact ⟨⟨⟨by omega, by omega⟩, by omega, by omega⟩, by first | assumption | omega⟩)) rfl (by decide) q1198 rfl (v := .int (iI (bI (zGn w v0)))) rfl dX2_maySee_21 ?_
  refine z_join (pc2 := 49) (nL := 4) (lv := [(3, .int (iI ((zRt w (w (261 + 9 * v0))) p0))), (0, .ref (ad kst)), (1, .int (iI p0)), (2, .ref (ad (kver v0)))]) (st2 := [.int (iI (bI (!(zGn w v0) && ((decide ((zRt w (w (261 + 9 * v0))) p0 = 2)) || ((decide ((zRt w (w (261 + 9 * v0))) p0 = 1)) && (decide (w (261 + 9 * v0 + 3) = 0)))))))]) hS (fun J_2 => ?_) (fun locs ls hS hl => ?_)
  · refine z_ifb_ne (b := zGn w v0) (tgt := 48) hx hb dX2_maySee_24 (by decide) (fun c_3 => ?_) (fun c_3 => ?_)
    · refine lv_iconst (v := iI 0) hx hb dX2_maySee_48 rfl ?_
      refine z_top (x := 0) (y := bI (!(zGn w v0) && ((decide ((zRt w (w (261 + 9 * v0))) p0 = 2)) || ((decide ((zRt w (w (261 + 9 * v0))) p0 = 1)) && (decide (w (261 + 9 * v0 + 3) = 0)))))) (by simp [bI, c_3]) ?_
      exact J_2 _ ls hS (lv_sub hl [0, 1, 2, 3] rfl)
    · refine lv_iload_n hx hb dX2_maySee_27 rfl (lv_at hl 0 rfl) ?_
      refine lv_iconst (v := iI 2) hx hb dX2_maySee_28 rfl ?_
      refine z_icmp_eq (x := (zRt w (w (261 + 9 * v0))) p0) (y := 2) (tgt := 44) hx hb (by first | with_reducible assumption | with_reducible exact hwR _ | omega | exact ⟨by omega, by omega⟩) (by decide) dX2_maySee_29 (by decide) (fun c_4 => ?_) (fun c_4 => ?_)
      · refine lv_iconst (v := iI 1) hx hb dX2_maySee_44 rfl ?_
        refine lv_goto (tgt := 49) hx hb dX2_maySee_45 (by decide) ?_
        refine z_top (x := 1) (y := bI (!(zGn w v0) && ((decide ((zRt w (w (261 + 9 * v0))) p0 = 2)) || ((decide ((zRt w (w (261 + 9 * v0))) p0 = 1)) && (decide (w (261 + 9 * v0 + 3) = 0)))))) (by simp [bI, c_3, c_4]) ?_
        exact J_2 _ ls hS (lv_sub hl [0, 1, 2, 3] rfl)
      · refine lv_iload_n hx hb dX2_maySee_32 rfl (lv_at hl 0 rfl) ?_
        refine lv_iconst (v := iI 1) hx hb dX2_maySee_33 rfl ?_
        refine z_icmp_ne (x := (zRt w (w (261 + 9 * v0))) p0) (y := 1) (tgt := 48) hx hb (by first | with_reducible assumption | with_reducible exact hwR _ | omega | exact ⟨by omega, by omega⟩) (by decide) dX2_maySee_34 (by decide) (fun c_5 => ?_) (fun c_5 => ?_)
        · refine lv_iconst (v := iI 0) hx hb dX2_maySee_48 rfl ?_
          refine z_top (x := 0) (y := bI (!(zGn w v0) && ((decide ((zRt w (w (261 + 9 * v0))) p0 = 2)) || ((decide ((zRt w (w (261 + 9 * v0))) p0 = 1)) && (decide (w (261 + 9 * v0 + 3) = 0)))))) (by simp [bI, c_3, c_4, c_5]) ?_
          exact J_2 _ ls hS (lv_sub hl [0, 1, 2, 3] rfl)
        · refine lv_aload_n hx hb dX2_maySee_37 rfl (lv_at hl 3 rfl) ?_
          refine z_callp (vx_runV (As := []) (rest := []) ⟨hx, hb, hml, hown, hts⟩ (cg_X12_isReleased l (hR.ver (v := v0) (by first | with_reducible assumption | exact ⟨by omega, by omega⟩ | exact ⟨⟨by omega, by omega⟩, by omega, by omega⟩ | exact ⟨⟨⟨by omega, by omega⟩, by omega, by omega⟩, by first | assumption | omega⟩)) (by first | with_reducible assumption | with_reducible exact hwR _ | omega | exact ⟨by omega, by omega⟩)) (cwV 0 hts (lw_V q386 q387 q388 q77 q389) rfl rfl rfl hd_X12_isReleased ⟨Nat.le_of_ble_eq_true rfl, Nat.le_of_ble_eq_true rfl⟩) (z_preV hK hS (zN_le hAn hS) (hR.ver (v := v0) (by first | with_reducible assumption | exact ⟨by omega, by omega⟩ | exact ⟨⟨by omega, by omega⟩, by omega, by omega⟩ | exact ⟨⟨⟨by omega, by omega⟩, by omega, by omega⟩, by first | assumption | omega⟩)) rfl rfl) rfl rfl hl.1 rfl (lv_room (Nat.le_of_ble_eq_true rfl)) dX2_maySee_38 ⟨Nat.le_of_ble_eq_true rfl, Nat.le_of_ble_eq_true rfl⟩) hS (zN_le hAn hS) rfl rfl (fun locs hS => ?_)
          refine z_ifb_eq (b := decide (w (261 + 9 * v0 + 3) = 0)) (tgt := 48) hx hb dX2_maySee_41 (by decide) (fun c_6 => ?_) (fun c_6 => ?_)
          · refine lv_iconst (v := iI 0) hx hb dX2_maySee_48 rfl ?_
            refine z_top (x := 0) (y := bI (!(zGn w v0) && ((decide ((zRt w (w (261 + 9 * v0))) p0 = 2)) || ((decide ((zRt w (w (261 + 9 * v0))) p0 = 1)) && (decide (w (261 + 9 * v0 + 3) = 0)))))) (by simp [bI, c_3, c_4, c_5, c_6]) ?_
            exact J_2 _ ls hS (lv_sub hl [0, 1, 2, 3] rfl)
          · refine lv_iconst (v := iI 1) hx hb dX2_maySee_44 rfl ?_
            refine lv_goto (tgt := 49) hx hb dX2_maySee_45 (by decide) ?_
            refine z_top (x := 1) (y := bI (!(zGn w v0) && ((decide ((zRt w (w (261 + 9 * v0))) p0 = 2)) || ((decide ((zRt w (w (261 + 9 * v0))) p0 = 1)) && (decide (w (261 + 9 * v0 + 3) = 0)))))) (by simp [bI, c_3, c_4, c_5, c_6]) ?_
            exact J_2 _ ls hS (lv_sub hl [0, 1, 2, 3] rfl)
  · exact z_iret hx hb hret (z_nar _) hlocks hS ⟨congrArg (fun z => some (Value.int (iI (bI z)))) (by simp [tw_sees, tw_isReleased, zRt_right]), rfl⟩ (Nat.le_of_ble_eq_true rfl) (Nat.le_of_ble_eq_true rfl) dX2_maySee_49
theorem hn_X2_hasLapsed : yX2_hasLapsed.cls ≠ "java/lang/invoke/MethodHandle" ∧ yX2_hasLapsed.cls ≠ "java/lang/invoke/VarHandle" ∧ (parseMethodDescriptor yX2_hasLapsed.desc).map (fun d => d.parameters.length) = some 1 := by decide +kernel
theorem hd_X2_hasLapsed : yX2_hasLapsed.cls = "CheckoutDesk$Store" ∧ yX2_hasLapsed.cls ≠ "java/lang/invoke/MethodHandle" ∧ yX2_hasLapsed.cls ≠ "java/lang/invoke/VarHandle" ∧ (parseMethodDescriptor yX2_hasLapsed.desc).map (fun d => d.parameters.length) = some 1 := ⟨rfl, hn_X2_hasLapsed⟩
abbrev rm_X2_hasLapsed : Room := { frames := 1, cells := 0, slots := 0, locals := 16 }
set_option maxHeartbeats 1000000 in
theorem cg_X2_hasLapsed (l : Launch) {G : zG} {H0 : Heap} {w : Int → Int} {ad : zKey → Nat} {mc : Int → Int} {cp : Int → Nat} {cl : Bool} {F : Nat → Prop} (hR : zR G w ad mc cp cl F H0) {d0 b0 : Int} (hcd : (0 ≤ d0 ∧ d0 < w 2) ∧ 0 ≤ b0 ∧ b0 < w (5 + 32 * d0 + 1)) (hne : w (5 + 32 * d0 + 8 + 8 * b0 + 1) ≠ 0) (hClk : tClk w) (hBr : tBr w) : zM l yX2_hasLapsed (ws_ yX2_hasLapsed cX2_hasLapsed 2 (some .boolean)) rm_X2_hasLapsed G (zN H0) [.ref (ad kst), .ref (ad (kcy d0 b0))] H0 (fun r H1 => r = some (.int (iI (bI (!(decide (w 0 - w (5 + 32 * d0 + 8 + 8 * b0 + 2) < w 1)))))) ∧ H1 = H0) (fun _ => False) := by
  refine z_enter (by decide +kernel) (Nat.le_of_ble_eq_true rfl) ?_
  intro p e s m args below meth c ls hx hb hret hml hown hts hlocks htab hnm hK hH hl
  subst hH
  have hAn : ∀ q, s.heap.size ≤ q → (zN s.heap) q := fun _ h => h
  have hS : va_S (zN s.heap) s.heap s.heap [] := va_S.rf
  have hS0 := hS
  have hsz_0 : s.heap.size ≤ s.heap.size := Nat.le_refl _
  have hl : lv_has ls 2 [(0, .ref (ad kst)), (1, .ref (ad (kcy d0 b0)))] := hl
  obtain ⟨hD, hV, hL_, hB, hwR⟩ := hR.n
  have hk := (hBr d0 b0 hcd.1.1 hcd.1.2 hcd.2.1 hcd.2.2).2.1
  obtain ⟨hk0, hk1⟩ := hClk
  refine lv_aload_n hx hb dX2_hasLapsed_0 rfl (lv_at hl 0 rfl) ?_
  refine z_get (k := 3) hx hb hts in_X2 hown hK hR.st rfl (by decide) q183 rfl (v := .int (iI (w 0))) rfl dX2_hasLapsed_1 ?_
  refine lv_aload_n hx hb dX2_hasLapsed_4 rfl (lv_at hl 1 rfl) ?_
  refine z_getN (k := 3) hx hb hts in_X15 hown hK (hR.cy (d := d0) (b := b0) (by first | with_reducible assumption | exact ⟨by omega, by omega⟩ | exact ⟨⟨by omega, by omega⟩, by omega, by omega⟩ | exact ⟨⟨⟨by omega, by omega⟩, by omega, by omega⟩, by first | assumption | omega⟩)) rfl (by decide) q1415 rfl (v := .int (iI (w (5 + 32 * d0 + 8 + 8 * b0 + 2)))) rfl dX2_hasLapsed_5 ?_
  refine z_isub (x := w 0) (y := w (5 + 32 * d0 + 8 + 8 * b0 + 2)) hx hb dX2_hasLapsed_8 ?_
  refine lv_aload_n hx hb dX2_hasLapsed_9 rfl (lv_at hl 0 rfl) ?_
  refine z_get (k := 4) hx hb hts in_X2 hown hK hR.st rfl (by decide) q185 rfl (v := .int (iI (w 1))) rfl dX2_hasLapsed_10 ?_
  refine z_join (pc2 := 21) (nL := 2) (lv := [(0, .ref (ad kst)), (1, .ref (ad (kcy d0 b0)))]) (st2 := [.int (iI (bI (!(decide (w 0 - w (5 + 32 * d0 + 8 + 8 * b0 + 2) < w 1)))))]) hS (fun J_1 => ?_) (fun locs ls hS hl => ?_)
  · refine z_icmp_lt (x := w 0 - w (5 + 32 * d0 + 8 + 8 * b0 + 2)) (y := w 1) (tgt := 20) hx hb (by first | with_reducible assumption | with_reducible exact hwR _ | omega | exact ⟨by omega, by omega⟩) (by first | with_reducible assumption | with_reducible exact hwR _ | omega | exact ⟨by omega, by omega⟩) dX2_hasLapsed_13 (by decide) (fun c_2 => ?_) (fun c_2 => ?_)
    · refine lv_iconst (v := iI 0) hx hb dX2_hasLapsed_20 rfl ?_
      refine z_top (x := 0) (y := bI (!(decide (w 0 - w (5 + 32 * d0 + 8 + 8 * b0 + 2) < w 1)))) (by simp [bI, c_2]) ?_
      exact J_1 _ ls hS (lv_sub hl [0, 1] rfl)
    · refine lv_iconst (v := iI 1) hx hb dX2_hasLapsed_16 rfl ?_
      refine lv_goto (tgt := 21) hx hb dX2_hasLapsed_17 (by decide) ?_
      refine z_top (x := 1) (y := bI (!(decide (w 0 - w (5 + 32 * d0 + 8 + 8 * b0 + 2) < w 1)))) (by simp [bI, c_2]) ?_
      exact J_1 _ ls hS (lv_sub hl [0, 1] rfl)
  · exact z_iret hx hb hret (z_nar _) hlocks hS ⟨rfl, rfl⟩ (Nat.le_of_ble_eq_true rfl) (Nat.le_of_ble_eq_true rfl) dX2_hasLapsed_21
