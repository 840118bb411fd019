set_option maxRecDepth 100000
section ZCQ
variable {p : Program} {l : Launch} {e : Env} {R : Room} {s : State} {m : MethodId} {args : Array Value} {below : List Frame} {meth : Method} {c : Code} {H : Heap} {locs : List Loc} {cells slots : Nat} {Q : State → Prop}
variable {cc : ByteArray} {pc : Nat} {ls : Array Slot} {rest st0 : List Value}
theorem z_castEq (hexec : p.tables.exec = Jvm.exec) (hb : c.code = cc) {own nm : String} {index : Nat} {r : Option Nat} (hown : s.vm.findClass own = some m.cls) (hlink : (Cond.classLink own index nm).before args s = true)
    (hr : ∀ x, r = some x → ∃ cell : Cell, H[x]? = some cell ∧ cell.vm.isStatics = false ∧ s.vm.findClass nm = some cell.cls) (hdg : decode cc pc = .ok (.checkcast index, 3))
    (k : W p l e R s m args below meth c H locs cells slots Q (F0 m (pc + 3) ls (va_rf r :: rest))) : W p l e R s m args below meth c H locs cells slots Q (F0 m pc ls (va_rf r :: rest)) := by
  cases r with
  | none => exact lv_castN hexec hb hdg k
  | some x => exact va_castE hexec hb hown hlink (hr x rfl) hdg k
end ZCQ
theorem zdb_ct {w : Int → Int} {d v : Int} {is : Bool} : ∀ n : Nat, tw_ndb w d v is n = (is || decide (0 < zct (fun i : Nat => decide (w (5 + 32 * d + 8 + 8 * i) = v) || (decide (0 < w (5 + 32 * d + 8 + 8 * i + 1)) && decide (w (5 + 32 * d + 8 + 8 * i + 3) = v))) n))
  | 0 => by simp [tw_ndb, zct]
  | n + 1 => by
    have h := zct_R (fun i : Nat => decide (w (5 + 32 * d + 8 + 8 * i) = v) || (decide (0 < w (5 + 32 * d + 8 + 8 * i + 1)) && decide (w (5 + 32 * d + 8 + 8 * i + 3) = v))) n
    unfold tw_ndb zct
    rw [zdb_ct n]
    cases q : (decide (w (5 + 32 * d + 8 + 8 * (n : Int)) = v) || (decide (0 < w (5 + 32 * d + 8 + 8 * (n : Int) + 1)) && decide (w (5 + 32 * d + 8 + 8 * (n : Int) + 3) = v)))
    · simp [bI]
    · rw [decide_eq_true (p := 0 < _ + _) (by simp only [bI]; simp; omega)]
      simp
theorem zdl_ct {w : Int → Int} {v : Int} {is : Bool} : ∀ n : Nat, tw_ndl w v is n = (is || decide (0 < zct (fun i : Nat => decide (w (801 + 3 * i + 1) = 0) && decide (w (801 + 3 * i + 2) = v)) n))
  | 0 => by simp [tw_ndl, zct]
  | n + 1 => by
    have h := zct_R (fun i : Nat => decide (w (801 + 3 * i + 1) = 0) && decide (w (801 + 3 * i + 2) = v)) n
    unfold tw_ndl zct
    rw [zdl_ct n]
    cases q : (decide (w (801 + 3 * (n : Int) + 1) = 0) && decide (w (801 + 3 * (n : Int) + 2) = v))
    · simp [bI]
    · rw [decide_eq_true (p := 0 < _ + _) (by simp only [bI]; simp; omega)]
      simp
theorem hn_X2_newest : yX2_newest.cls ≠ "java/lang/invoke/MethodHandle" ∧ yX2_newest.cls ≠ "java/lang/invoke/VarHandle" ∧ (parseMethodDescriptor yX2_newest.desc).map (fun d => d.parameters.length) = some 2 := by decide +kernel
theorem hd_X2_newest : yX2_newest.cls = "CheckoutDesk$Store" ∧ yX2_newest.cls ≠ "java/lang/invoke/MethodHandle" ∧ yX2_newest.cls ≠ "java/lang/invoke/VarHandle" ∧ (parseMethodDescriptor yX2_newest.desc).map (fun d => d.parameters.length) = some 2 := ⟨rfl, hn_X2_newest⟩
abbrev rm_X2_newest : Room := { frames := 61, cells := 1, slots := 3, locals := 1024 }
set_option maxHeartbeats 1000000 in
theorem cg_X2_newest (l : Launch) {G : zG} {H0 : Heap} {w : Int → Int} {ad : zKey → Nat} {mc : Int → Int} {cp : Int → Nat} {cl : Bool} {F : Nat → Prop} (hR : zR G w ad mc cp cl F H0) {d0 b0 : Int} (h0 : inR d0) (h1 : inR b0) (hVr : tVer2 w) : zM l yX2_newest (ws_ yX2_newest cX2_newest 3 (some (.object "CheckoutDesk$Version"))) rm_X2_newest G (zN H0) [.ref (ad kst), .int (iI d0), .int (iI b0)] H0 (fun r H1 => r = some (va_rf (zbo ad (tw_newestOf w d0 b0))) ∧ ∀ q : Nat, q < H0.size → H1[q]? = H0[q]?) (fun _ => False) := by
  refine z_enter (by decide +kernel) (Nat.le_of_ble_eq_true rfl) ?_
  intro p e s m args below meth c ls hx hb hret hml hown hts hlocks htab hnm hK hH hl
  subst hH
  have hAn : ∀ q, s.heap.size ≤ q → (zN s.heap) q := fun _ h => h
  have hS : va_S (zN s.heap) s.heap s.heap [] := va_S.rf
  have hS0 := hS
  have hsz_0 : s.heap.size ≤ s.heap.size := Nat.le_refl _
  have hl : lv_has ls 3 [(0, .ref (ad kst)), (1, .int (iI d0)), (2, .int (iI b0))] := hl
  obtain ⟨hD, hV, hL_, hB, hwR⟩ := hR.n
  have hnw : -1 ≤ tw_newestOf w d0 b0 ∧ tw_newestOf w d0 b0 < w 3 := by have := tw_nw_R w d0 b0 (w 3).toNat; unfold tw_newestOf; omega
  refine lv_aload_n hx hb dX2_newest_0 rfl (lv_at hl 0 rfl) ?_
  refine z_get (k := 1) hx hb hts in_X2 hown hK hR.st rfl (by decide) q168 rfl (v := .ref (ad (krow 1))) rfl dX2_newest_1 ?_
  refine z_newO (ci := 5) (fs := [.int (iI 0), .int (iI 0), .null]) hx hb hts in_X6 tyX6 tyX6_ok hown q956 q957 q59 hK hS rfl (fun j hj => by rcases (show j = 0 ∨ j = 1 ∨ j = 2 by omega) with rfl | rfl | rfl <;> rfl) (Nat.le_of_ble_eq_true rfl) (Nat.le_of_ble_eq_true rfl) dX2_newest_4 (fun q_1 H_2 hq_1 ho_3 hz_4 hk_5 hS1 => ?_)
  have hS := hS1
  have wx_6 : ∀ k, zlive w cp k → ad k ≠ q_1 := fun k hk => by have := hR.lt hk; omega
  have hw_7 := hR.grow hk_5
  have hsz_8 : s.heap.size ≤ H_2.size := hS.1
  have hN_9 : ∀ q : Nat, q < s.heap.size → H_2[q]? = s.heap[q]? := fun q hq => (hk_5 q (Nat.lt_of_lt_of_le hq hS0.1)).trans ((fun _ _ => rfl) q hq)
  have hS0 := hS
  have hA_q_1 := hAn q_1 (by omega)
  refine lv_dup hx hb dX2_newest_7 rfl ?_
  refine lv_aload_n hx hb dX2_newest_8 rfl (lv_at hl 0 rfl) ?_
  refine lv_iload_n hx hb dX2_newest_9 rfl (lv_at hl 1 rfl) ?_
  refine lv_iload_n hx hb dX2_newest_10 rfl (lv_at hl 2 rfl) ?_
  refine z_callV (vx_runI (As := [.ref (ad kst), .int (iI d0), .int (iI b0)]) (rest := [.ref q_1, .ref (ad (krow 1))]) ⟨hx, hb, hml, hown, hts⟩ (cc_X6_init l ho_3) (cwI 3 hts (lw_meth q960) rfl rfl rfl (hts _ q59) (hts _ q958) (hts _ q959) rfl hn_X6_init ⟨Nat.le_of_ble_eq_true rfl, Nat.le_of_ble_eq_true rfl⟩) (z_preS hK hS (zO1_le hA_q_1 hAn hS)) rfl rfl hl.1 rfl (lv_room (Nat.le_of_ble_eq_true rfl)) dX2_newest_11 ⟨Nat.le_of_ble_eq_true rfl, Nat.le_of_ble_eq_true rfl⟩) hS (zO1_le hA_q_1 hAn hS) (fun H_10 locs hp _ _ hS1 => ?_)
  obtain ⟨ho_11, hz_12, hk_13⟩ := hp
  have hS := hS1
  have hw_14 := hw_7.kept (fun k hk => hk_13 _ (wx_6 k hk))
  have hsz_15 : s.heap.size ≤ H_10.size := hS.1
  have hN_16 : ∀ q : Nat, q < s.heap.size → H_10[q]? = s.heap[q]? := fun q hq => (hk_13 q (by omega)).trans (hN_9 q hq)
  have hS0 := hS
  refine z_callp (vx_runSN (As := [.ref (ad (krow 1)), .ref q_1]) (rest := []) ⟨hx, hb, hml, hown, hts⟩ (cg_X1_greatest l hw_14 ho_11 (rfl : zcl[5]? = some (RX6, TX6, 3)) hi_X6_fits ⟨rfl, rfl, Nat.le_of_ble_eq_true rfl, Nat.le_of_ble_eq_true rfl, Nat.le_of_ble_eq_true rfl⟩ (fun i : Nat => tw_isOn w i d0 b0) (fun i hi => cg_X6_fits l hw_14 ho_11 h0 h1 ⟨by omega, hi⟩) hVr) ⟨va_cnB 2 hts (lw_meth q408) rfl rfl rfl (hK.2.1 _ q406 rfl) (hts _ q43) hn_X1_greatest ⟨Nat.le_of_ble_eq_true rfl, Nat.le_of_ble_eq_true rfl⟩, hts _ q407, trivial⟩ (z_preS hK hS (zN_le hAn hS)) rfl rfl hl.1 rfl (lv_room (Nat.le_of_ble_eq_true rfl)) dX2_newest_14 ⟨Nat.le_of_ble_eq_true rfl, Nat.le_of_ble_eq_true rfl⟩) hS (zN_le hAn hS) rfl rfl (fun locs hS => ?_)
  refine W.eq (g2 := F0 m 17 ls (va_rf (zbo ad (tw_newestOf w d0 b0)) :: [])) (congrArg (fun z => F0 m 17 ls (va_rf (zbo ad z) :: [])) (zbs_nw _)) ?_
  refine z_castEq (nm := "CheckoutDesk$Version") hx hb hown (hts _ q737) (fun x hx9 => by obtain ⟨hn9, rfl⟩ := zbo_some hx9; exact z_recv (q := (RX12, TX12, 7)) hK (hw_14.ver (v := tw_newestOf w d0 b0) ⟨by omega, by omega⟩) rfl) dX2_newest_17 ?_
  exact z_aret (r := zbo ad (tw_newestOf w d0 b0)) hx hb hret (Or.inl ⟨_, rfl⟩) hlocks hS ⟨rfl, hN_16⟩ (Nat.le_of_ble_eq_true rfl) (Nat.le_of_ble_eq_true rfl) dX2_newest_20
