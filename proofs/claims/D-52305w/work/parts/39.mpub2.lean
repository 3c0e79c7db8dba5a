set_option maxHeartbeats 4000000 in
set_option maxRecDepth 100000 in
theorem mt_share_ok (l : Launch) (E : xG) (mo aS aT aW aO : Nat) (tr : Nat → Nat) (th : Int32) (n : Nat) (so : Nat → Nat) (m : Nat) (ts : Nat → Nat → Nat) (sh : Int32) (ow ot : Nat → Int32) (sz : Nat) (way : Nat) (hw : way < 4) (hwm : xNeed way ≤ m) (hn : n ≤ 40) (hm : m ≤ 5) (hd : xMd mo aS aT aW aO tr) (hso : ∀ k, so k < 5) (hts9 : ∀ e k, ts e k ≤ 9) : Met l yX4_share (ws_ yX4_share cX4_share 2 (some .int)) ({ frames := 7, cells := 2, slots := 6, locals := 280 } : Room) (xPre E (fun q => xMF mo aS aT aW aO tr q ∨ sz ≤ q) [.ref mo, .int (nI way)] (fun H => H.size = sz ∧ xM E mo aS aT aW aO tr th n so m ts sh ow ot H)) (xQ (fun q => xMF mo aS aT aW aO tr q ∨ sz ≤ q) (fun v H => v = .int (nI (mn (wGive (tk ts so) n m way) (-1) n)) ∧ xM E mo aS aT aW aO tr (nI 0) n so m ts (sh + nI 1) (wGive (tk ts so) n m way) ot H)) 2 6 (fun q => xMF mo aS aT aW aO tr q ∨ sz ≤ q) := by
  refine Met.ofW (cc := cX4_share) (maxL := 2) (ret := (some .int)) (by decide) rfl ?_
  intro P0 e0 s m0 args below meth c0 s₁ B hml hv
  obtain ⟨rfl, hE, hsz, hM⟩ := hv
  have hx := B.exec
  have hb := B.bytes
  have hr := B.returns
  have hts := atoms_spec (ws := ws_ yX4_share cX4_share 2 (some .int)) B.pre
  have hts : ∀ w ∈ lw_all, w.before _ s = true := fun w h => hts w (List.mem_cons_of_mem _ h)
  have hown : s.vm.findClass RX4 = some m0.cls := findClass_of_methodNamed B.named
  have hlocks := B.notSynchronized
  have hS : va_S (fun q => xMF mo aS aT aW aO tr q ∨ sz ≤ q) s.heap s.heap [] := va_S.rf
  have hl := lv_entry ([.ref mo, .int (nI way)]) (n := 2) (Nat.le_of_ble_eq_true rfl)
  rw [lg_entry_eq]
  generalize (lg_sl ([.ref mo, .int (nI way)]) ++ List.replicate (2 - (lg_sl ([.ref mo, .int (nI way)])).length) Slot.unset).toArray = ls at hl ⊢
  have hl : lv_has ls 2 [(0, .ref mo), (1, .int (nI way))] := hl
  refine lv_aload_n hx hb dX4_share_0 rfl (lv_at hl 0 rfl) ?_
  refine lv_iconst (v := (nI 0)) hx hb dX4_share_1 (by decide) ?_
  refine xr_put hx hb hts in_X4 tyX4 tyX4_ok nmX4 hown hE hS (Or.inl (Or.inl (Or.inl rfl))) ((hM).1.1) rfl 0 (by decide) (hts _ q787) (fun _ h => h) rfl (ty := tyX4 0) (by decide) rfl rfl (Nat.le_of_ble_eq_true rfl) dX4_share_2 (fun H_1 L_2 hO_ hz_3 ho_4 hS => ?_)
  have hO_ : xO E mo 3 [.int (nI 0), .int (nI n), .ref aS, .int (nI m), .ref aT, .int sh, .ref aW, .ref aO] H_1 := hO_
  have hM := hM.put hd hO_ (fun q _ h => ho_4 q h)
  refine lv_iload_n hx hb dX4_share_5 rfl (lv_at hl 1 rfl) ?_
  refine lv_iconst (v := (nI 0)) hx hb dX4_share_6 (by decide) ?_
  refine lv_iconst (v := (nI 3)) hx hb dX4_share_7 (by decide) ?_
  refine xr_ro (va_runS (As := [.int (nI way), .int (nI 0), .int (nI 3)]) (rest := []) ⟨hx, hb, hml, hown, hts⟩ (mt_isIn_t l E (fun q => xMF mo aS aT aW aO tr q ∨ sz ≤ q) (nI way) (nI 0) (nI 3) (nI_le (by omega) (by omega)) (nI_le (by omega) (by omega))) (va_cwS 3 hts (lw_S q820 q821 q44 q822) rfl rfl rfl (by decide +kernel) ⟨Nat.le_of_ble_eq_true rfl, Nat.le_of_ble_eq_true rfl⟩) ⟨xPre_blind, fun U hU hW => xPre_at hE hS (fun _ h => h) trivial hU hW⟩ rfl rfl hl.1 rfl (lv_room (Nat.le_of_ble_eq_true rfl)) dX4_share_8 ⟨(show 0 + 0 ≤ 2 by omega), (show 0 + 0 ≤ 6 by omega)⟩) ?_
  refine xr_zne (tgt := 20) hx hb dX4_share_11 (by decide) (by omega) (fun c_ => ?_) (fun c_ => absurd c_ (by omega))
  have hx3 : xNeed way ≤ 3 := by unfold xNeed; split <;> (try split) <;> omega
  refine lv_aload_n hx hb dX4_share_20 rfl (lv_at hl 0 rfl) ?_
  refine xr_get hx hb hts in_X4 hown hE ((hM).1.1) rfl 3 (by decide) (hts _ q790) (fun _ h => h) rfl dX4_share_21 ?_
  refine va_gets hx hb hE.2.2.2.2.2.1 hS hown (hts _ q858) (fun _ h => h) dX4_share_24 ?_
  refine lv_iload_n hx hb dX4_share_27 rfl (lv_at hl 1 rfl) ?_
  refine va_ti hx hb hE.2.2.2.2.2.2.1 hS (vp_in_nI (n := way) hw (by omega)) (v := .int (nI (xNeed way))) (by rw [nI_clamp (by omega)]) dX4_share_28 ?_
  refine xr_cge (tgt := 38) hx hb dX4_share_29 (by decide) (by omega) (by omega) (fun c_ => ?_) (fun c_ => absurd c_ (by omega))
  refine lv_aload_n hx hb dX4_share_38 rfl (lv_at hl 0 rfl) ?_
  refine lv_aload_n hx hb dX4_share_39 rfl (lv_at hl 0 rfl) ?_
  refine xr_get hx hb hts in_X4 hown hE ((hM).1.1) rfl 6 (by decide) (hts _ q793) (fun _ h => h) rfl dX4_share_40 ?_
  refine lv_iload_n hx hb dX4_share_43 rfl (lv_at hl 1 rfl) ?_
  refine xr_muv (va_runV (As := [.ref aW, .int (nI way)]) (rest := []) ⟨hx, hb, hml, hown, hts⟩ (mt_give2 l E mo aS aT aW aO tr (nI 0) n so m ts sh aW ow way H_1.size hw hwm hm hn hd.w hso hts9) (cwV 2 hts (lw_V q860 q862 qs16 q44 q863) rfl rfl rfl (by decide +kernel) ⟨Nat.le_of_ble_eq_true rfl, Nat.le_of_ble_eq_true rfl⟩) ⟨xPre_blind, ((hM).1.1).recv hE rfl, fun U hU hW => xPre_at hE hS (fun q h => h.elim (fun e => Or.inl (Or.inr (Or.inl e))) (fun h => Or.inr (Nat.le_trans (by have := hS.1; omega) h))) (⟨rfl, hM.1, hM.2.1⟩) hU hW⟩ rfl rfl hl.1 rfl (lv_room (Nat.le_of_ble_eq_true rfl)) dX4_share_44 ⟨(show 0 + 2 ≤ 2 by omega), (show 0 + 6 ≤ 6 by omega)⟩) hS (fun q h => h.elim (fun e => Or.inl (Or.inr (Or.inl e))) (fun h => Or.inr (Nat.le_trans (by have := hS.1; omega) h))) (fun q h => h.elim (fun e => Or.inl (Or.inr (Or.inl e))) (fun h => Or.inr (Nat.le_trans (by have := hS.1; omega) h))) (fun H_5 L_6 hP_ hz_7 hk_8 hS => ?_)
  have hR_ := hP_
  have hM := hM.setW hd hR_ (fun q h1 h2 => hk_8 q h1 (fun z => z.elim h2 (fun z => absurd z (Nat.not_le.mpr h1))))
  refine lv_aload_n hx hb dX4_share_47 rfl (lv_at hl 0 rfl) ?_
  refine lv_dup hx hb dX4_share_48 rfl ?_
  refine xr_get hx hb hts in_X4 hown hE ((hM).1.1) rfl 5 (by decide) (hts _ q792) (fun _ h => h) rfl dX4_share_49 ?_
  refine lv_iconst (v := (nI 1)) hx hb dX4_share_52 (by decide) ?_
  refine lv_iadd hx hb dX4_share_53 ?_
  refine xr_put hx hb hts in_X4 tyX4 tyX4_ok nmX4 hown hE hS (Or.inl (Or.inl (Or.inl rfl))) ((hM).1.1) rfl 5 (by decide) (hts _ q792) (fun _ h => h) rfl (ty := tyX4 5) (by decide) rfl rfl (Nat.le_of_ble_eq_true rfl) dX4_share_54 (fun H_9 L_10 hO_ hz_11 ho_12 hS => ?_)
  have hO_ : xO E mo 3 [.int (nI 0), .int (nI n), .ref aS, .int (nI m), .ref aT, .int (sh + nI 1), .ref aW, .ref aO] H_9 := hO_
  have hM := hM.put hd hO_ (fun q _ h => ho_12 q h)
  refine lv_aload_n hx hb dX4_share_57 rfl (lv_at hl 0 rfl) ?_
  refine xr_get hx hb hts in_X4 hown hE ((hM).1.1) rfl 6 (by decide) (hts _ q793) (fun _ h => h) rfl dX4_share_58 ?_
  refine lv_aload_n hx hb dX4_share_61 rfl (lv_at hl 0 rfl) ?_
  refine xr_get hx hb hts in_X4 hown hE ((hM).1.1) rfl 1 (by decide) (hts _ q788) (fun _ h => h) rfl dX4_share_62 ?_
  refine lv_iconst (v := (-1)) hx hb dX4_share_65 (by decide) ?_
  refine xr_ro (va_runS (As := [.ref aW, .int (nI n), .int (-1)]) (rest := []) ⟨hx, hb, hml, hown, hts⟩ (mt_many l E (fun q => xMF mo aS aT aW aO tr q ∨ sz ≤ q) aW (wGive (tk ts so) n m way) n (-1) hn) (va_cwS 3 hts (lw_S q896 q897 q44 q898) rfl rfl rfl (by decide +kernel) ⟨Nat.le_of_ble_eq_true rfl, Nat.le_of_ble_eq_true rfl⟩) ⟨xPre_blind, fun U hU hW => xPre_at hE hS (fun _ h => h) hM.2.1 hU hW⟩ rfl rfl hl.1 rfl (lv_room (Nat.le_of_ble_eq_true rfl)) dX4_share_66 ⟨(show 2 + 0 ≤ 2 by omega), (show 6 + 0 ≤ 6 by omega)⟩) ?_
  exact W.iret hx hb hr (fun t ht hW => ⟨⟨_, rfl, by rw [ht]; exact ⟨rfl, hM⟩⟩, hS.F ht⟩) hS.2.2 dX4_share_69

set_option maxHeartbeats 4000000 in
set_option maxRecDepth 100000 in
theorem mt_share_no2 (l : Launch) (E : xG) (mo aS aT aW aO : Nat) (tr : Nat → Nat) (th : Int32) (n : Nat) (so : Nat → Nat) (m : Nat) (ts : Nat → Nat → Nat) (sh : Int32) (ow ot : Nat → Int32) (sz : Nat) (way : Nat) (hw : way < 4) (hwm : m < xNeed way) (hn : n ≤ 40) (hm : m ≤ 5) (hd : xMd mo aS aT aW aO tr) (hso : ∀ k, so k < 5) (hts9 : ∀ e k, ts e k ≤ 9) : Met l yX4_share (ws_ yX4_share cX4_share 2 (some .int)) ({ frames := 7, cells := 0, slots := 0, locals := 280 } : Room) (xPre E (fun q => xMF mo aS aT aW aO tr q ∨ sz ≤ q) [.ref mo, .int (nI way)] (fun H => H.size = sz ∧ xM E mo aS aT aW aO tr th n so m ts sh ow ot H)) (xQ (fun q => xMF mo aS aT aW aO tr q ∨ sz ≤ q) (fun v H => v = .int (nI 0) ∧ xM E mo aS aT aW aO tr (nI 2) n so m ts sh ow ot H)) 0 0 (fun q => xMF mo aS aT aW aO tr q ∨ sz ≤ q) := by
  refine Met.ofW (cc := cX4_share) (maxL := 2) (ret := (some .int)) (by decide) rfl ?_
  intro P0 e0 s m0 args below meth c0 s₁ B hml hv
  obtain ⟨rfl, hE, hsz, hM⟩ := hv
  have hx := B.exec
  have hb := B.bytes
  have hr := B.returns
  have hts := atoms_spec (ws := ws_ yX4_share cX4_share 2 (some .int)) B.pre
  have hts : ∀ w ∈ lw_all, w.before _ s = true := fun w h => hts w (List.mem_cons_of_mem _ h)
  have hown : s.vm.findClass RX4 = some m0.cls := findClass_of_methodNamed B.named
  have hlocks := B.notSynchronized
  have hS : va_S (fun q => xMF mo aS aT aW aO tr q ∨ sz ≤ q) s.heap s.heap [] := va_S.rf
  have hl := lv_entry ([.ref mo, .int (nI way)]) (n := 2) (Nat.le_of_ble_eq_true rfl)
  rw [lg_entry_eq]
  generalize (lg_sl ([.ref mo, .int (nI way)]) ++ List.replicate (2 - (lg_sl ([.ref mo, .int (nI way)])).length) Slot.unset).toArray = ls at hl ⊢
  have hl : lv_has ls 2 [(0, .ref mo), (1, .int (nI way))] := hl
  refine lv_aload_n hx hb dX4_share_0 rfl (lv_at hl 0 rfl) ?_
  refine lv_iconst (v := (nI 0)) hx hb dX4_share_1 (by decide) ?_
  refine xr_put hx hb hts in_X4 tyX4 tyX4_ok nmX4 hown hE hS (Or.inl (Or.inl (Or.inl rfl))) ((hM).1.1) rfl 0 (by decide) (hts _ q787) (fun _ h => h) rfl (ty := tyX4 0) (by decide) rfl rfl (Nat.le_of_ble_eq_true rfl) dX4_share_2 (fun H_1 L_2 hO_ hz_3 ho_4 hS => ?_)
  have hO_ : xO E mo 3 [.int (nI 0), .int (nI n), .ref aS, .int (nI m), .ref aT, .int sh, .ref aW, .ref aO] H_1 := hO_
  have hM := hM.put hd hO_ (fun q _ h => ho_4 q h)
  refine lv_iload_n hx hb dX4_share_5 rfl (lv_at hl 1 rfl) ?_
  refine lv_iconst (v := (nI 0)) hx hb dX4_share_6 (by decide) ?_
  refine lv_iconst (v := (nI 3)) hx hb dX4_share_7 (by decide) ?_
  refine xr_ro (va_runS (As := [.int (nI way), .int (nI 0), .int (nI 3)]) (rest := []) ⟨hx, hb, hml, hown, hts⟩ (mt_isIn_t l E (fun q => xMF mo aS aT aW aO tr q ∨ sz ≤ q) (nI way) (nI 0) (nI 3) (nI_le (by omega) (by omega)) (nI_le (by omega) (by omega))) (va_cwS 3 hts (lw_S q820 q821 q44 q822) rfl rfl rfl (by decide +kernel) ⟨Nat.le_of_ble_eq_true rfl, Nat.le_of_ble_eq_true rfl⟩) ⟨xPre_blind, fun U hU hW => xPre_at hE hS (fun _ h => h) trivial hU hW⟩ rfl rfl hl.1 rfl (lv_room (Nat.le_of_ble_eq_true rfl)) dX4_share_8 ⟨(show 0 + 0 ≤ 0 by omega), (show 0 + 0 ≤ 0 by omega)⟩) ?_
  refine xr_zne (tgt := 20) hx hb dX4_share_11 (by decide) (by omega) (fun c_ => ?_) (fun c_ => absurd c_ (by omega))
  have hx3 : xNeed way ≤ 3 := by unfold xNeed; split <;> (try split) <;> omega
  refine lv_aload_n hx hb dX4_share_20 rfl (lv_at hl 0 rfl) ?_
  refine xr_get hx hb hts in_X4 hown hE ((hM).1.1) rfl 3 (by decide) (hts _ q790) (fun _ h => h) rfl dX4_share_21 ?_
  refine va_gets hx hb hE.2.2.2.2.2.1 hS hown (hts _ q858) (fun _ h => h) dX4_share_24 ?_
  refine lv_iload_n hx hb dX4_share_27 rfl (lv_at hl 1 rfl) ?_
  refine va_ti hx hb hE.2.2.2.2.2.2.1 hS (vp_in_nI (n := way) hw (by omega)) (v := .int (nI (xNeed way))) (by rw [nI_clamp (by omega)]) dX4_share_28 ?_
  refine xr_cge (tgt := 38) hx hb dX4_share_29 (by decide) (by omega) (by omega) (fun c_ => absurd c_ (by omega)) (fun c_ => ?_)
  refine lv_aload_n hx hb dX4_share_32 rfl (lv_at hl 0 rfl) ?_
  refine lv_iconst (v := (nI 2)) hx hb dX4_share_33 (by decide) ?_
  refine xr_mu (va_runV (As := [.int (nI 2)]) (rest := []) ⟨hx, hb, hml, hown, hts⟩ (mt_no l E mo aS aT aW aO (nI 0) n m sh 2) (cwV 1 hts (lw_V q823 q825 qs13 q44 q826) rfl rfl rfl (by decide +kernel) ⟨Nat.le_of_ble_eq_true rfl, Nat.le_of_ble_eq_true rfl⟩) ⟨xPre_blind, ((hM).1.1).recv hE rfl, fun U hU hW => xPre_at hE hS (fun q h => Or.inl (Or.inl (Or.inl h))) hM.1.1 hU hW⟩ rfl rfl hl.1 rfl (lv_room (Nat.le_of_ble_eq_true rfl)) dX4_share_34 ⟨(show 0 + 0 ≤ 0 by omega), (show 0 + 0 ≤ 0 by omega)⟩) hS (fun q h => Or.inl (Or.inl (Or.inl h))) (fun q h => Or.inl (Or.inl (Or.inl h))) (fun vv H_5 L_6 hP_ hz_7 hk_8 hS => ?_)
  obtain ⟨hv_, hO_⟩ := hP_
  subst hv_
  have hM := hM.put hd hO_ (fun q h1 h2 => hk_8 q h1 h2)
  exact W.iret hx hb hr (fun t ht hW => ⟨⟨_, rfl, by rw [ht]; exact ⟨rfl, hM⟩⟩, hS.F ht⟩) hS.2.2 dX4_share_37

set_option maxHeartbeats 4000000 in
set_option maxRecDepth 100000 in
theorem mt_share_no (l : Launch) (E : xG) (mo aS aT aW aO : Nat) (tr : Nat → Nat) (th : Int32) (n : Nat) (so : Nat → Nat) (m : Nat) (ts : Nat → Nat → Nat) (sh : Int32) (ow ot : Nat → Int32) (sz : Nat) (x : Int32) (h : ¬ vp_in x 4) (hn : n ≤ 40) (hm : m ≤ 5) (hd : xMd mo aS aT aW aO tr) (hso : ∀ k, so k < 5) (hts9 : ∀ e k, ts e k ≤ 9) : Met l yX4_share (ws_ yX4_share cX4_share 2 (some .int)) ({ frames := 7, cells := 0, slots := 0, locals := 280 } : Room) (xPre E (fun q => xMF mo aS aT aW aO tr q ∨ sz ≤ q) [.ref mo, .int x] (fun H => H.size = sz ∧ xM E mo aS aT aW aO tr th n so m ts sh ow ot H)) (xQ (fun q => xMF mo aS aT aW aO tr q ∨ sz ≤ q) (fun v H => v = .int (nI 0) ∧ xM E mo aS aT aW aO tr (nI 1) n so m ts sh ow ot H)) 0 0 (fun q => xMF mo aS aT aW aO tr q ∨ sz ≤ q) := by
  refine Met.ofW (cc := cX4_share) (maxL := 2) (ret := (some .int)) (by decide) rfl ?_
  intro P0 e0 s m0 args below meth c0 s₁ B hml hv
  obtain ⟨rfl, hE, hsz, hM⟩ := hv
  have hx := B.exec
  have hb := B.bytes
  have hr := B.returns
  have hts := atoms_spec (ws := ws_ yX4_share cX4_share 2 (some .int)) B.pre
  have hts : ∀ w ∈ lw_all, w.before _ s = true := fun w h => hts w (List.mem_cons_of_mem _ h)
  have hown : s.vm.findClass RX4 = some m0.cls := findClass_of_methodNamed B.named
  have hlocks := B.notSynchronized
  have hS : va_S (fun q => xMF mo aS aT aW aO tr q ∨ sz ≤ q) s.heap s.heap [] := va_S.rf
  have hl := lv_entry ([.ref mo, .int x]) (n := 2) (Nat.le_of_ble_eq_true rfl)
  rw [lg_entry_eq]
  generalize (lg_sl ([.ref mo, .int x]) ++ List.replicate (2 - (lg_sl ([.ref mo, .int x])).length) Slot.unset).toArray = ls at hl ⊢
  have hl : lv_has ls 2 [(0, .ref mo), (1, .int x)] := hl
  refine lv_aload_n hx hb dX4_share_0 rfl (lv_at hl 0 rfl) ?_
  refine lv_iconst (v := (nI 0)) hx hb dX4_share_1 (by decide) ?_
  refine xr_put hx hb hts in_X4 tyX4 tyX4_ok nmX4 hown hE hS (Or.inl (Or.inl (Or.inl rfl))) ((hM).1.1) rfl 0 (by decide) (hts _ q787) (fun _ h => h) rfl (ty := tyX4 0) (by decide) rfl rfl (Nat.le_of_ble_eq_true rfl) dX4_share_2 (fun H_1 L_2 hO_ hz_3 ho_4 hS => ?_)
  have hO_ : xO E mo 3 [.int (nI 0), .int (nI n), .ref aS, .int (nI m), .ref aT, .int sh, .ref aW, .ref aO] H_1 := hO_
  have hM := hM.put hd hO_ (fun q _ h => ho_4 q h)
  refine lv_iload_n hx hb dX4_share_5 rfl (lv_at hl 1 rfl) ?_
  refine lv_iconst (v := (nI 0)) hx hb dX4_share_6 (by decide) ?_
  refine lv_iconst (v := (nI 3)) hx hb dX4_share_7 (by decide) ?_
  refine xr_ro (va_runS (As := [.int x, .int (nI 0), .int (nI 3)]) (rest := []) ⟨hx, hb, hml, hown, hts⟩ (mt_isIn_f l E (fun q => xMF mo aS aT aW aO tr q ∨ sz ≤ q) x (nI 0) (nI 3) (in_f (m := 4) h (by omega))) (va_cwS 3 hts (lw_S q820 q821 q44 q822) rfl rfl rfl (by decide +kernel) ⟨Nat.le_of_ble_eq_true rfl, Nat.le_of_ble_eq_true rfl⟩) ⟨xPre_blind, fun U hU hW => xPre_at hE hS (fun _ h => h) trivial hU hW⟩ rfl rfl hl.1 rfl (lv_room (Nat.le_of_ble_eq_true rfl)) dX4_share_8 ⟨(show 0 + 0 ≤ 0 by omega), (show 0 + 0 ≤ 0 by omega)⟩) ?_
  refine xr_zne (tgt := 20) hx hb dX4_share_11 (by decide) (by omega) (fun c_ => absurd c_ (by omega)) (fun c_ => ?_)
  refine lv_aload_n hx hb dX4_share_14 rfl (lv_at hl 0 rfl) ?_
  refine lv_iconst (v := (nI 1)) hx hb dX4_share_15 (by decide) ?_
  refine xr_mu (va_runV (As := [.int (nI 1)]) (rest := []) ⟨hx, hb, hml, hown, hts⟩ (mt_no l E mo aS aT aW aO (nI 0) n m sh 1) (cwV 1 hts (lw_V q823 q825 qs13 q44 q826) rfl rfl rfl (by decide +kernel) ⟨Nat.le_of_ble_eq_true rfl, Nat.le_of_ble_eq_true rfl⟩) ⟨xPre_blind, ((hM).1.1).recv hE rfl, fun U hU hW => xPre_at hE hS (fun q h => Or.inl (Or.inl (Or.inl h))) hM.1.1 hU hW⟩ rfl rfl hl.1 rfl (lv_room (Nat.le_of_ble_eq_true rfl)) dX4_share_16 ⟨(show 0 + 0 ≤ 0 by omega), (show 0 + 0 ≤ 0 by omega)⟩) hS (fun q h => Or.inl (Or.inl (Or.inl h))) (fun q h => Or.inl (Or.inl (Or.inl h))) (fun vv H_5 L_6 hP_ hz_7 hk_8 hS => ?_)
  obtain ⟨hv_, hO_⟩ := hP_
  subst hv_
  have hM := hM.put hd hO_ (fun q h1 h2 => hk_8 q h1 h2)
  exact W.iret hx hb hr (fun t ht hW => ⟨⟨_, rfl, by rw [ht]; exact ⟨rfl, hM⟩⟩, hS.F ht⟩) hS.2.2 dX4_share_19

set_option maxHeartbeats 4000000 in
set_option maxRecDepth 100000 in
theorem mt_crumbs_ok (l : Launch) (E : xG) (mo aS aT aW aO : Nat) (tr : Nat → Nat) (th : Int32) (n : Nat) (so : Nat → Nat) (m : Nat) (ts : Nat → Nat → Nat) (sh : Int32) (ow ot : Nat → Int32) (sz : Nat) (h0 : 0 < m) (hn : n ≤ 40) (hm : m ≤ 5) (hd : xMd mo aS aT aW aO tr) (hso : ∀ k, so k < 5) (hts9 : ∀ e k, ts e k ≤ 9) : Met l yX4_crumbs (ws_ yX4_crumbs cX4_crumbs 3 (some .int)) ({ frames := 7, cells := 0, slots := 0, locals := 280 } : Room) (xPre E (fun q => xMF mo aS aT aW aO tr q ∨ sz ≤ q) [.ref mo] (fun H => H.size = sz ∧ xM E mo aS aT aW aO tr th n so m ts sh ow ot H)) (xQ (fun q => xMF mo aS aT aW aO tr q ∨ sz ≤ q) (fun v H => v = .int (nI (mn ow (-1) n)) ∧ xM E mo aS aT aW aO tr (nI 0) n so m ts sh (wTurns (tk ts so) n m ow (por (fun e => wo (tk ts so e) ow (nI e) n) m)) ot H)) 0 0 (fun q => xMF mo aS aT aW aO tr q ∨ sz ≤ q) := by
  refine Met.ofW (cc := cX4_crumbs) (maxL := 3) (ret := (some .int)) (by decide) rfl ?_
  intro P0 e0 s m0 args below meth c0 s₁ B hml hv
  obtain ⟨rfl, hE, hsz, hM⟩ := hv
  have hx := B.exec
  have hb := B.bytes
  have hr := B.returns
  have hts := atoms_spec (ws := ws_ yX4_crumbs cX4_crumbs 3 (some .int)) B.pre
  have hts : ∀ w ∈ lw_all, w.before _ s = true := fun w h => hts w (List.mem_cons_of_mem _ h)
  have hown : s.vm.findClass RX4 = some m0.cls := findClass_of_methodNamed B.named
  have hlocks := B.notSynchronized
  have hS : va_S (fun q => xMF mo aS aT aW aO tr q ∨ sz ≤ q) s.heap s.heap [] := va_S.rf
  have hl := lv_entry ([.ref mo]) (n := 3) (Nat.le_of_ble_eq_true rfl)
  rw [lg_entry_eq]
  generalize (lg_sl ([.ref mo]) ++ List.replicate (3 - (lg_sl ([.ref mo])).length) Slot.unset).toArray = ls at hl ⊢
  have hl : lv_has ls 3 [(0, .ref mo)] := hl
  refine lv_aload_n hx hb dX4_crumbs_0 rfl (lv_at hl 0 rfl) ?_
  refine lv_iconst (v := (nI 0)) hx hb dX4_crumbs_1 (by decide) ?_
  refine xr_put hx hb hts in_X4 tyX4 tyX4_ok nmX4 hown hE hS (Or.inl (Or.inl (Or.inl rfl))) ((hM).1.1) rfl 0 (by decide) (hts _ q787) (fun _ h => h) rfl (ty := tyX4 0) (by decide) rfl rfl (Nat.le_of_ble_eq_true rfl) dX4_crumbs_2 (fun H_1 L_2 hO_ hz_3 ho_4 hS => ?_)
  have hO_ : xO E mo 3 [.int (nI 0), .int (nI n), .ref aS, .int (nI m), .ref aT, .int sh, .ref aW, .ref aO] H_1 := hO_
  have hM := hM.put hd hO_ (fun q _ h => ho_4 q h)
  refine lv_aload_n hx hb dX4_crumbs_5 rfl (lv_at hl 0 rfl) ?_
  refine xr_get hx hb hts in_X4 hown hE ((hM).1.1) rfl 3 (by decide) (hts _ q790) (fun _ h => h) rfl dX4_crumbs_6 ?_
  refine xr_zne (tgt := 18) hx hb dX4_crumbs_9 (by decide) (by omega) (fun c_ => ?_) (fun c_ => absurd c_ (by omega))
  refine lv_iconst (v := (nI 0)) hx hb dX4_crumbs_18 (by decide) ?_
  refine lv_istore_n (lv' := [(1, .int (nI 0)), (0, .ref mo)]) hx hb dX4_crumbs_19 rfl hl (by decide) rfl (fun ls hl => ?_)
  refine lv_iconst (v := (nI 1)) hx hb dX4_crumbs_20 (by decide) ?_
  refine lv_istore_n (lv' := [(2, .int (nI 1)), (1, .int (nI 0)), (0, .ref mo)]) hx hb dX4_crumbs_21 rfl hl (by decide) rfl (fun ls hl => ?_)
  have lp : ∀ (nn : Nat) (e : Nat), (0 < e) → (e ≤ m) → (m - e) < nn → ∀ (ls : Array Slot), lv_has ls 3 [(0, .ref mo), (1, .int (nI (por (fun e => wo (tk ts so e) ow (nI e) n) e))), (2, .int (nI e))] → W P0 l e0 (headSpec (ws_ yX4_crumbs cX4_crumbs 3 (some .int)) ({ frames := 7, cells := 0, slots := 0, locals := 280 } : Room)).room s m0 ([.ref mo] : List Value).toArray below meth c0 H_1 L_2 0 0 (MQ below (xQ (fun q => xMF mo aS aT aW aO tr q ∨ sz ≤ q) (fun v H => v = .int (nI (mn ow (-1) n)) ∧ xM E mo aS aT aW aO tr (nI 0) n so m ts sh (wTurns (tk ts so) n m ow (por (fun e => wo (tk ts so e) ow (nI e) n) m)) ot H)) ([.ref mo] : List Value).toArray s 0 0 (fun q => xMF mo aS aT aW aO tr q ∨ sz ≤ q)) (F0 m0 22 ls []) := by
    intro nn
    induction nn with
    | zero =>
      intro e he1 he2 hnn
      exact absurd hnn (Nat.not_lt_zero _)
    | succ nn ih =>
      intro e he1 he2 hnn ls hl
      refine lv_iload_n hx hb dX4_crumbs_22 rfl (lv_at hl 2 rfl) ?_
      refine lv_aload_n hx hb dX4_crumbs_23 rfl (lv_at hl 0 rfl) ?_
      refine xr_get hx hb hts in_X4 hown hE ((hM).1.1) rfl 3 (by decide) (hts _ q790) (fun _ h => h) rfl dX4_crumbs_24 ?_
      refine xr_cge (tgt := 61) hx hb dX4_crumbs_27 (by decide) (by omega) (by omega) (fun c_5 => ?_) (fun c_5 => ?_)
      · obtain rfl : m = e := by omega
        refine lv_aload_n hx hb dX4_crumbs_61 rfl (lv_at hl 0 rfl) ?_
        refine lv_aload_n hx hb dX4_crumbs_62 rfl (lv_at hl 0 rfl) ?_
        refine xr_get hx hb hts in_X4 hown hE ((hM).1.1) rfl 6 (by decide) (hts _ q793) (fun _ h => h) rfl dX4_crumbs_63 ?_
        refine lv_iload_n hx hb dX4_crumbs_66 rfl (lv_at hl 1 rfl) ?_
        refine xr_mu (va_runV (As := [.ref aW, .int (nI (por (fun e => wo (tk ts so e) ow (nI e) n) m))]) (rest := []) ⟨hx, hb, hml, hown, hts⟩ (mt_turns l E mo aS aT aW aO tr (nI 0) n so m ts sh aW ow (por (fun e => wo (tk ts so e) ow (nI e) n) m) (por_lt _ h0) hm hn hd.w hso hts9) (cwV 2 hts (lw_V q892 q894 qs23 q44 q895) rfl rfl rfl (by decide +kernel) ⟨Nat.le_of_ble_eq_true rfl, Nat.le_of_ble_eq_true rfl⟩) ⟨xPre_blind, ((hM).1.1).recv hE rfl, fun U hU hW => xPre_at hE hS (fun q h => Or.inl (Or.inr (Or.inl h))) (⟨hM.1, hM.2.1⟩) hU hW⟩ rfl rfl hl.1 rfl (lv_room (Nat.le_of_ble_eq_true rfl)) dX4_crumbs_67 ⟨(show 0 + 0 ≤ 0 by omega), (show 0 + 0 ≤ 0 by omega)⟩) hS (fun q h => Or.inl (Or.inr (Or.inl h))) (fun q h => Or.inl (Or.inr (Or.inl h))) (fun vv H_6 L_7 hP_ hz_8 hk_9 hS => ?_)
        obtain ⟨hv_, hR_⟩ := hP_
        subst hv_
        have hM := hM.setW hd hR_ (fun q h1 h2 => hk_9 q h1 h2)
        exact W.iret hx hb hr (fun t ht hW => ⟨⟨_, rfl, by rw [ht]; exact ⟨rfl, hM⟩⟩, hS.F ht⟩) hS.2.2 dX4_crumbs_70
      · have hpl := por_lt (fun e => wo (tk ts so e) ow (nI e) n) he1
        refine lv_aload_n hx hb dX4_crumbs_30 rfl (lv_at hl 0 rfl) ?_
        refine lv_aload_n hx hb dX4_crumbs_31 rfl (lv_at hl 0 rfl) ?_
        refine xr_get hx hb hts in_X4 hown hE ((hM).1.1) rfl 6 (by decide) (hts _ q793) (fun _ h => h) rfl dX4_crumbs_32 ?_
        refine lv_iload_n hx hb dX4_crumbs_35 rfl (lv_at hl 2 rfl) ?_
        refine lv_iload_n hx hb dX4_crumbs_36 rfl (lv_at hl 2 rfl) ?_
        refine xr_ro (va_runV (As := [.ref aW, .int (nI e), .int (nI e)]) (rest := []) ⟨hx, hb, hml, hown, hts⟩ (mt_worth l E (fun q => xMF mo aS aT aW aO tr q ∨ sz ≤ q) mo aS aT aW aO tr (nI 0) n so m ts sh aW ow e (nI e) (by omega) hn hso) (cwV 3 hts (lw_V q908 q910 qs25 q44 q911) rfl rfl rfl (by decide +kernel) ⟨Nat.le_of_ble_eq_true rfl, Nat.le_of_ble_eq_true rfl⟩) ⟨xPre_blind, ((hM).1.1).recv hE rfl, fun U hU hW => xPre_at hE hS (fun _ h => h) (⟨hM.1, hM.2.1⟩) hU hW⟩ rfl rfl hl.1 rfl (lv_room (Nat.le_of_ble_eq_true rfl)) dX4_crumbs_37 ⟨(show 0 + 0 ≤ 0 by omega), (show 0 + 0 ≤ 0 by omega)⟩) ?_
        refine lv_aload_n hx hb dX4_crumbs_40 rfl (lv_at hl 0 rfl) ?_
        refine lv_aload_n hx hb dX4_crumbs_41 rfl (lv_at hl 0 rfl) ?_
        refine xr_get hx hb hts in_X4 hown hE ((hM).1.1) rfl 6 (by decide) (hts _ q793) (fun _ h => h) rfl dX4_crumbs_42 ?_
        refine lv_iload_n hx hb dX4_crumbs_45 rfl (lv_at hl 1 rfl) ?_
        refine lv_iload_n hx hb dX4_crumbs_46 rfl (lv_at hl 1 rfl) ?_
        refine xr_ro (va_runV (As := [.ref aW, .int (nI (por (fun e => wo (tk ts so e) ow (nI e) n) e)), .int (nI (por (fun e => wo (tk ts so e) ow (nI e) n) e))]) (rest := [.int (nI (wo (tk ts so e) ow (nI e) n))]) ⟨hx, hb, hml, hown, hts⟩ (mt_worth l E (fun q => xMF mo aS aT aW aO tr q ∨ sz ≤ q) mo aS aT aW aO tr (nI 0) n so m ts sh aW ow (por (fun e => wo (tk ts so e) ow (nI e) n) e) (nI (por (fun e => wo (tk ts so e) ow (nI e) n) e)) (by omega) hn hso) (cwV 3 hts (lw_V q908 q910 qs25 q44 q911) rfl rfl rfl (by decide +kernel) ⟨Nat.le_of_ble_eq_true rfl, Nat.le_of_ble_eq_true rfl⟩) ⟨xPre_blind, ((hM).1.1).recv hE rfl, fun U hU hW => xPre_at hE hS (fun _ h => h) (⟨hM.1, hM.2.1⟩) hU hW⟩ rfl rfl hl.1 rfl (lv_room (Nat.le_of_ble_eq_true rfl)) dX4_crumbs_47 ⟨(show 0 + 0 ≤ 0 by omega), (show 0 + 0 ≤ 0 by omega)⟩) ?_
        have q1 := wo_9 (f := tk ts so e) (fun k => hts9 e (so k)) (ow := ow) (v := nI e) hn
        have q2 := wo_9 (f := tk ts so (por (fun e => wo (tk ts so e) ow (nI e) n) e)) (fun k => hts9 _ (so k)) (ow := ow) (v := nI (por (fun e => wo (tk ts so e) ow (nI e) n) e)) hn
        refine xr_cge (tgt := 55) hx hb dX4_crumbs_50 (by decide) (by omega) (by omega) (fun c3 => ?_) (fun c3 => ?_)
        · refine lv_iinc (v := (nI (e + 1))) (lv' := [(2, .int (nI (e + 1))), (0, .ref mo), (1, .int (nI (por (fun e => wo (tk ts so e) ow (nI e) n) e)))]) hx hb dX4_crumbs_55 hl (k := 2) rfl (nI_add e 1) (by decide) rfl (fun ls hl => ?_)
          refine lv_goto (tgt := 22) hx hb dX4_crumbs_58 (by decide) ?_
          exact ih (e + 1) (by omega) (by omega) (by omega) ls (by rw [por, if_neg (Nat.not_lt.mpr c3)]; exact lv_sub hl [1, 2, 0] rfl)
        · refine lv_iload_n hx hb dX4_crumbs_53 rfl (lv_at hl 2 rfl) ?_
          refine lv_istore_n (lv' := [(1, .int (nI e)), (0, .ref mo), (2, .int (nI e))]) hx hb dX4_crumbs_54 rfl hl (by decide) rfl (fun ls hl => ?_)
          refine lv_iinc (v := (nI (e + 1))) (lv' := [(2, .int (nI (e + 1))), (1, .int (nI e)), (0, .ref mo)]) hx hb dX4_crumbs_55 hl (k := 2) rfl (nI_add e 1) (by decide) rfl (fun ls hl => ?_)
          refine lv_goto (tgt := 22) hx hb dX4_crumbs_58 (by decide) ?_
          exact ih (e + 1) (by omega) (by omega) (by omega) ls (by rw [por, if_pos c3]; exact lv_sub hl [2, 1, 0] rfl)
  exact lp (m + 1) 1 (by omega) (by omega) (by omega) ls (by rw [por_1]; exact lv_sub hl [2, 1, 0] rfl)

set_option maxHeartbeats 4000000 in
set_option maxRecDepth 100000 in
theorem mt_crumbs_no (l : Launch) (E : xG) (mo aS aT aW aO : Nat) (tr : Nat → Nat) (th : Int32) (n : Nat) (so : Nat → Nat) (m : Nat) (ts : Nat → Nat → Nat) (sh : Int32) (ow ot : Nat → Int32) (sz : Nat) (h0 : m = 0) (hn : n ≤ 40) (hm : m ≤ 5) (hd : xMd mo aS aT aW aO tr) (hso : ∀ k, so k < 5) (hts9 : ∀ e k, ts e k ≤ 9) : Met l yX4_crumbs (ws_ yX4_crumbs cX4_crumbs 3 (some .int)) ({ frames := 7, cells := 0, slots := 0, locals := 280 } : Room) (xPre E (fun q => xMF mo aS aT aW aO tr q ∨ sz ≤ q) [.ref mo] (fun H => H.size = sz ∧ xM E mo aS aT aW aO tr th n so m ts sh ow ot H)) (xQ (fun q => xMF mo aS aT aW aO tr q ∨ sz ≤ q) (fun v H => v = .int (nI 0) ∧ xM E mo aS aT aW aO tr (nI 1) n so m ts sh ow ot H)) 0 0 (fun q => xMF mo aS aT aW aO tr q ∨ sz ≤ q) := by
  refine Met.ofW (cc := cX4_crumbs) (maxL := 3) (ret := (some .int)) (by decide) rfl ?_
  intro P0 e0 s m0 args below meth c0 s₁ B hml hv
  obtain ⟨rfl, hE, hsz, hM⟩ := hv
  have hx := B.exec
  have hb := B.bytes
  have hr := B.returns
  have hts := atoms_spec (ws := ws_ yX4_crumbs cX4_crumbs 3 (some .int)) B.pre
  have hts : ∀ w ∈ lw_all, w.before _ s = true := fun w h => hts w (List.mem_cons_of_mem _ h)
  have hown : s.vm.findClass RX4 = some m0.cls := findClass_of_methodNamed B.named
  have hlocks := B.notSynchronized
  have hS : va_S (fun q => xMF mo aS aT aW aO tr q ∨ sz ≤ q) s.heap s.heap [] := va_S.rf
  have hl := lv_entry ([.ref mo]) (n := 3) (Nat.le_of_ble_eq_true rfl)
  rw [lg_entry_eq]
  generalize (lg_sl ([.ref mo]) ++ List.replicate (3 - (lg_sl ([.ref mo])).length) Slot.unset).toArray = ls at hl ⊢
  have hl : lv_has ls 3 [(0, .ref mo)] := hl
  refine lv_aload_n hx hb dX4_crumbs_0 rfl (lv_at hl 0 rfl) ?_
  refine lv_iconst (v := (nI 0)) hx hb dX4_crumbs_1 (by decide) ?_
  refine xr_put hx hb hts in_X4 tyX4 tyX4_ok nmX4 hown hE hS (Or.inl (Or.inl (Or.inl rfl))) ((hM).1.1) rfl 0 (by decide) (hts _ q787) (fun _ h => h) rfl (ty := tyX4 0) (by decide) rfl rfl (Nat.le_of_ble_eq_true rfl) dX4_crumbs_2 (fun H_1 L_2 hO_ hz_3 ho_4 hS => ?_)
  have hO_ : xO E mo 3 [.int (nI 0), .int (nI n), .ref aS, .int (nI m), .ref aT, .int sh, .ref aW, .ref aO] H_1 := hO_
  have hM := hM.put hd hO_ (fun q _ h => ho_4 q h)
  refine lv_aload_n hx hb dX4_crumbs_5 rfl (lv_at hl 0 rfl) ?_
  refine xr_get hx hb hts in_X4 hown hE ((hM).1.1) rfl 3 (by decide) (hts _ q790) (fun _ h => h) rfl dX4_crumbs_6 ?_
  refine xr_zne (tgt := 18) hx hb dX4_crumbs_9 (by decide) (by omega) (fun c_ => absurd c_ (by omega)) (fun c_ => ?_)
  refine lv_aload_n hx hb dX4_crumbs_12 rfl (lv_at hl 0 rfl) ?_
  refine lv_iconst (v := (nI 1)) hx hb dX4_crumbs_13 (by decide) ?_
  refine xr_mu (va_runV (As := [.int (nI 1)]) (rest := []) ⟨hx, hb, hml, hown, hts⟩ (mt_no l E mo aS aT aW aO (nI 0) n m sh 1) (cwV 1 hts (lw_V q823 q825 qs13 q44 q826) rfl rfl rfl (by decide +kernel) ⟨Nat.le_of_ble_eq_true rfl, Nat.le_of_ble_eq_true rfl⟩) ⟨xPre_blind, ((hM).1.1).recv hE rfl, fun U hU hW => xPre_at hE hS (fun q h => Or.inl (Or.inl (Or.inl h))) hM.1.1 hU hW⟩ rfl rfl hl.1 rfl (lv_room (Nat.le_of_ble_eq_true rfl)) dX4_crumbs_14 ⟨(show 0 + 0 ≤ 0 by omega), (show 0 + 0 ≤ 0 by omega)⟩) hS (fun q h => Or.inl (Or.inl (Or.inl h))) (fun q h => Or.inl (Or.inl (Or.inl h))) (fun vv H_5 L_6 hP_ hz_7 hk_8 hS => ?_)
  obtain ⟨hv_, hO_⟩ := hP_
  subst hv_
  have hM := hM.put hd hO_ (fun q h1 h2 => hk_8 q h1 h2)
  exact W.iret hx hb hr (fun t ht hW => ⟨⟨_, rfl, by rw [ht]; exact ⟨rfl, hM⟩⟩, hS.F ht⟩) hS.2.2 dX4_crumbs_17

set_option maxHeartbeats 4000000 in
set_option maxRecDepth 100000 in
theorem mt_swap_ok (l : Launch) (E : xG) (mo aS aT aW aO : Nat) (tr : Nat → Nat) (th : Int32) (n : Nat) (so : Nat → Nat) (m : Nat) (ts : Nat → Nat → Nat) (sh : Int32) (ow ot : Nat → Int32) (sz : Nat) (a b : Nat) (ha : a < m) (hb_ : b < m) (hab : a ≠ b) (hn : n ≤ 40) (hm : m ≤ 5) (hd : xMd mo aS aT aW aO tr) (hso : ∀ k, so k < 5) (hts9 : ∀ e k, ts e k ≤ 9) : Met l yX4_swap (ws_ yX4_swap cX4_swap 5 (some .boolean)) ({ frames := 7, cells := 0, slots := 0, locals := 280 } : Room) (xPre E (fun q => xMF mo aS aT aW aO tr q ∨ sz ≤ q) [.ref mo, .int (nI a), .int (nI b)] (fun H => H.size = sz ∧ xM E mo aS aT aW aO tr th n so m ts sh ow ot H)) (xQ (fun q => xMF mo aS aT aW aO tr q ∨ sz ≤ q) (fun v H => v = .int (nI (btrN (tk ts so) ow n a b)) ∧ xM E mo aS aT aW aO tr (nI 0) n so m ts sh (swf ow (nI a) (nI b) n) ot H)) 0 0 (fun q => xMF mo aS aT aW aO tr q ∨ sz ≤ q) := by
  refine Met.ofW (cc := cX4_swap) (maxL := 5) (ret := (some .boolean)) (by decide) rfl ?_
  intro P0 e0 s m0 args below meth c0 s₁ B hml hv
  obtain ⟨rfl, hE, hsz, hM⟩ := hv
  have hx := B.exec
  have hb := B.bytes
  have hr := B.returns
  have hts := atoms_spec (ws := ws_ yX4_swap cX4_swap 5 (some .boolean)) B.pre
  have hts : ∀ w ∈ lw_all, w.before _ s = true := fun w h => hts w (List.mem_cons_of_mem _ h)
  have hown : s.vm.findClass RX4 = some m0.cls := findClass_of_methodNamed B.named
  have hlocks := B.notSynchronized
  have hS : va_S (fun q => xMF mo aS aT aW aO tr q ∨ sz ≤ q) s.heap s.heap [] := va_S.rf
  have hl := lv_entry ([.ref mo, .int (nI a), .int (nI b)]) (n := 5) (Nat.le_of_ble_eq_true rfl)
  rw [lg_entry_eq]
  generalize (lg_sl ([.ref mo, .int (nI a), .int (nI b)]) ++ List.replicate (5 - (lg_sl ([.ref mo, .int (nI a), .int (nI b)])).length) Slot.unset).toArray = ls at hl ⊢
  have hl : lv_has ls 5 [(0, .ref mo), (1, .int (nI a)), (2, .int (nI b))] := hl
  refine lv_aload_n hx hb dX4_swap_0 rfl (lv_at hl 0 rfl) ?_
  refine lv_aload_n hx hb dX4_swap_1 rfl (lv_at hl 0 rfl) ?_
  refine lv_iload_n hx hb dX4_swap_2 rfl (lv_at hl 1 rfl) ?_
  refine xr_ro (va_runV (As := [.int (nI a)]) (rest := [.ref mo]) ⟨hx, hb, hml, hown, hts⟩ (mt_isEater_t l E (fun q => xMF mo aS aT aW aO tr q ∨ sz ≤ q) mo aS aT aW aO tr th n so m ts sh (nI a) hn hm (vp_in_nI ha (by omega))) (cwV 1 hts (lw_V q846 q848 qs15 q44 q849) rfl rfl rfl (by decide +kernel) ⟨Nat.le_of_ble_eq_true rfl, Nat.le_of_ble_eq_true rfl⟩) ⟨xPre_blind, ((hM).1.1).recv hE rfl, fun U hU hW => xPre_at hE hS (fun _ h => h) hM.1 hU hW⟩ rfl rfl hl.1 rfl (lv_room (Nat.le_of_ble_eq_true rfl)) dX4_swap_3 ⟨(show 0 + 0 ≤ 0 by omega), (show 0 + 0 ≤ 0 by omega)⟩) ?_
  refine xr_zeq (tgt := 17) hx hb dX4_swap_6 (by decide) (by omega) (fun c_ => absurd c_ (by omega)) (fun c_ => ?_)
  refine lv_aload_n hx hb dX4_swap_9 rfl (lv_at hl 0 rfl) ?_
  refine lv_iload_n hx hb dX4_swap_10 rfl (lv_at hl 2 rfl) ?_
  refine xr_ro (va_runV (As := [.int (nI b)]) (rest := [.ref mo]) ⟨hx, hb, hml, hown, hts⟩ (mt_isEater_t l E (fun q => xMF mo aS aT aW aO tr q ∨ sz ≤ q) mo aS aT aW aO tr th n so m ts sh (nI b) hn hm (vp_in_nI hb_ (by omega))) (cwV 1 hts (lw_V q846 q848 qs15 q44 q849) rfl rfl rfl (by decide +kernel) ⟨Nat.le_of_ble_eq_true rfl, Nat.le_of_ble_eq_true rfl⟩) ⟨xPre_blind, ((hM).1.1).recv hE rfl, fun U hU hW => xPre_at hE hS (fun _ h => h) hM.1 hU hW⟩ rfl rfl hl.1 rfl (lv_room (Nat.le_of_ble_eq_true rfl)) dX4_swap_11 ⟨(show 0 + 0 ≤ 0 by omega), (show 0 + 0 ≤ 0 by omega)⟩) ?_
  refine xr_zne (tgt := 21) hx hb dX4_swap_14 (by decide) (by omega) (fun c_ => ?_) (fun c_ => absurd c_ (by omega))
  refine lv_iload_n hx hb dX4_swap_21 rfl (lv_at hl 1 rfl) ?_
  refine lv_iload_n hx hb dX4_swap_22 rfl (lv_at hl 2 rfl) ?_
  refine xr_cne (tgt := 30) hx hb dX4_swap_23 (by decide) (by omega) (by omega) (fun c_ => ?_) (fun c_ => absurd c_ hab)
  refine lv_iconst (v := (nI 0)) hx hb dX4_swap_30 (by decide) ?_
  refine xr_put hx hb hts in_X4 tyX4 tyX4_ok nmX4 hown hE hS (Or.inl (Or.inl (Or.inl rfl))) ((hM).1.1) rfl 0 (by decide) (hts _ q787) (fun _ h => h) rfl (ty := tyX4 0) (by decide) rfl rfl (Nat.le_of_ble_eq_true rfl) dX4_swap_31 (fun H_1 L_2 hO_ hz_3 ho_4 hS => ?_)
  have hO_ : xO E mo 3 [.int (nI 0), .int (nI n), .ref aS, .int (nI m), .ref aT, .int sh, .ref aW, .ref aO] H_1 := hO_
  have hM := hM.put hd hO_ (fun q _ h => ho_4 q h)
  refine lv_aload_n hx hb dX4_swap_34 rfl (lv_at hl 0 rfl) ?_
  refine xr_get hx hb hts in_X4 hown hE ((hM).1.1) rfl 0 (by decide) (hts _ q787) (fun _ h => h) rfl dX4_swap_35 ?_
  refine xr_zeq (tgt := 43) hx hb dX4_swap_38 (by decide) (by omega) (fun c_ => ?_) (fun c_ => absurd c_ (by omega))
  refine lv_aload_n hx hb dX4_swap_43 rfl (lv_at hl 0 rfl) ?_
  refine lv_iload_n hx hb dX4_swap_44 rfl (lv_at hl 1 rfl) ?_
  refine lv_iload_n hx hb dX4_swap_45 rfl (lv_at hl 2 rfl) ?_
  refine xr_ro (va_runV (As := [.int (nI a), .int (nI b)]) (rest := []) ⟨hx, hb, hml, hown, hts⟩ (mt_isBetter l E (fun q => xMF mo aS aT aW aO tr q ∨ sz ≤ q) mo aS aT aW aO tr (nI 0) n so m ts sh ow a b (by omega) (by omega) hn hso hts9) (cwV 2 hts (lw_V q916 q918 qs26 q44 q919) rfl rfl rfl (by decide +kernel) ⟨Nat.le_of_ble_eq_true rfl, Nat.le_of_ble_eq_true rfl⟩) ⟨xPre_blind, ((hM).1.1).recv hE rfl, fun U hU hW => xPre_at hE hS (fun _ h => h) (⟨hM.1, hM.2.1⟩) hU hW⟩ rfl rfl hl.1 rfl (lv_room (Nat.le_of_ble_eq_true rfl)) dX4_swap_46 ⟨(show 0 + 0 ≤ 0 by omega), (show 0 + 0 ≤ 0 by omega)⟩) ?_
  refine lv_istore_n (lv' := [(3, .int (nI (btrN (tk ts so) ow n a b))), (0, .ref mo), (1, .int (nI a)), (2, .int (nI b))]) hx hb dX4_swap_49 rfl hl (by decide) rfl (fun ls hl => ?_)
  refine lv_iconst (v := (nI 0)) hx hb dX4_swap_50 (by decide) ?_
  refine lv_istore (lv' := [(4, .int (nI 0)), (3, .int (nI (btrN (tk ts so) ow n a b))), (0, .ref mo), (1, .int (nI a)), (2, .int (nI b))]) hx hb dX4_swap_51 hl (by decide) rfl (fun ls hl => ?_)
  have lp : ∀ (nn : Nat) (k : Nat), (k ≤ n) → (n - k) < nn → ∀ (H : Heap) (locs : List Loc), (True ∧ xM E mo aS aT aW aO tr (nI 0) n so m ts sh (swf ow (nI a) (nI b) k) ot H) → va_S (fun q => xMF mo aS aT aW aO tr q ∨ sz ≤ q) s.heap H locs → ∀ (ls : Array Slot), lv_has ls 5 [(0, .ref mo), (1, .int (nI a)), (2, .int (nI b)), (3, .int (nI (btrN (tk ts so) ow n a b))), (4, .int (nI k))] → W P0 l e0 (headSpec (ws_ yX4_swap cX4_swap 5 (some .boolean)) ({ frames := 7, cells := 0, slots := 0, locals := 280 } : Room)).room s m0 ([.ref mo, .int (nI a), .int (nI b)] : List Value).toArray below meth c0 H locs 0 0 (MQ below (xQ (fun q => xMF mo aS aT aW aO tr q ∨ sz ≤ q) (fun v H => v = .int (nI (btrN (tk ts so) ow n a b)) ∧ xM E mo aS aT aW aO tr (nI 0) n so m ts sh (swf ow (nI a) (nI b) n) ot H)) ([.ref mo, .int (nI a), .int (nI b)] : List Value).toArray s 0 0 (fun q => xMF mo aS aT aW aO tr q ∨ sz ≤ q)) (F0 m0 53 ls []) := by
    intro nn
    induction nn with
    | zero =>
      intro k hk1 hnn
      exact absurd hnn (Nat.not_lt_zero _)
    | succ nn ih =>
      intro k hk1 hnn H locs hM hS ls hl
      have hM := hM.2
      refine lv_iload hx hb dX4_swap_53 (lv_at hl 4 rfl) ?_
      refine lv_aload_n hx hb dX4_swap_55 rfl (lv_at hl 0 rfl) ?_
      refine xr_get hx hb hts in_X4 hown hE ((hM).1.1) rfl 1 (by decide) (hts _ q788) (fun _ h => h) rfl dX4_swap_56 ?_
      refine xr_cge (tgt := 112) hx hb dX4_swap_59 (by decide) (by omega) (by omega) (fun c_5 => ?_) (fun c_5 => ?_)
      · obtain rfl : n = k := by omega
        refine lv_iload_n hx hb dX4_swap_112 rfl (lv_at hl 3 rfl) ?_
        exact W.zret hx hb hr (by unfold btrN; split <;> rfl) (fun t ht hW => ⟨⟨_, rfl, by rw [ht]; exact ⟨rfl, hM⟩⟩, hS.F ht⟩) hS.2.2 dX4_swap_113
      · refine lv_aload_n hx hb dX4_swap_62 rfl (lv_at hl 0 rfl) ?_
        refine xr_get hx hb hts in_X4 hown hE ((hM).1.1) rfl 6 (by decide) (hts _ q793) (fun _ h => h) rfl dX4_swap_63 ?_
        refine lv_iload hx hb dX4_swap_66 (lv_at hl 4 rfl) ?_
        refine lv_aload_n hx hb dX4_swap_68 rfl (lv_at hl 0 rfl) ?_
        refine xr_get hx hb hts in_X4 hown hE ((hM).1.1) rfl 6 (by decide) (hts _ q793) (fun _ h => h) rfl dX4_swap_69 ?_
        refine lv_iload hx hb dX4_swap_72 (lv_at hl 4 rfl) ?_
        refine xr_iald hx hb hE ((hM).2.1) (i := k) (by omega) (by omega) dX4_swap_74 ?_
        refine xr_ti (x := ((swf ow (nI a) (nI b) k) k)) (y := (ow k)) (swf_at _ _ _ _) ?_
        refine lv_iload_n hx hb dX4_swap_75 rfl (lv_at hl 1 rfl) ?_
        refine lv_icmp_ne (tgt := 83) hx hb dX4_swap_76 (by decide) (fun c1 => ?_) (fun c1 => ?_)
        · refine lv_aload_n hx hb dX4_swap_83 rfl (lv_at hl 0 rfl) ?_
          refine xr_get hx hb hts in_X4 hown hE ((hM).1.1) rfl 6 (by decide) (hts _ q793) (fun _ h => h) rfl dX4_swap_84 ?_
          refine lv_iload hx hb dX4_swap_87 (lv_at hl 4 rfl) ?_
          refine xr_iald hx hb hE ((hM).2.1) (i := k) (by omega) (by omega) dX4_swap_89 ?_
          refine xr_ti (x := ((swf ow (nI a) (nI b) k) k)) (y := (ow k)) (swf_at _ _ _ _) ?_
          refine lv_iload_n hx hb dX4_swap_90 rfl (lv_at hl 2 rfl) ?_
          refine lv_icmp_ne (tgt := 98) hx hb dX4_swap_91 (by decide) (fun c2 => ?_) (fun c2 => ?_)
          · refine lv_aload_n hx hb dX4_swap_98 rfl (lv_at hl 0 rfl) ?_
            refine xr_get hx hb hts in_X4 hown hE ((hM).1.1) rfl 6 (by decide) (hts _ q793) (fun _ h => h) rfl dX4_swap_99 ?_
            refine lv_iload hx hb dX4_swap_102 (lv_at hl 4 rfl) ?_
            refine xr_iald hx hb hE ((hM).2.1) (i := k) (by omega) (by omega) dX4_swap_104 ?_
            refine xr_ti (x := ((swf ow (nI a) (nI b) k) k)) (y := (ow k)) (swf_at _ _ _ _) ?_
            refine xr_ti (x := (ow k)) (y := (swp ow (nI a) (nI b) k)) (by unfold swp; rw [if_neg c1, if_neg c2]) ?_
            refine xr_iast hx hb hE hS (Or.inl (Or.inr (Or.inl rfl))) ((hM).2.1) (i := k) (by omega) (by omega) dX4_swap_105 (fun H_6 L_7 hI_ hz_8 ho_9 hS => ?_)
            have hI_ : xI E aW 40 (swf ow (nI a) (nI b) (k + 1)) H_6 := by rw [← (swf_s ow (nI a) (nI b) k)]; exact hI_
            have hM := hM.setW hd hI_ (fun q _ h => ho_9 q h)
            refine lv_iinc (v := (nI (k + 1))) (lv' := [(4, .int (nI (k + 1))), (0, .ref mo), (1, .int (nI a)), (2, .int (nI b)), (3, .int (nI (btrN (tk ts so) ow n a b)))]) hx hb dX4_swap_106 hl (k := 4) rfl (nI_add k 1) (by decide) rfl (fun ls hl => ?_)
            refine lv_goto (tgt := 53) hx hb dX4_swap_109 (by decide) ?_
            exact ih (k + 1) (by omega) (by omega) _ _ (⟨trivial, hM⟩) hS ls (lv_sub hl [1, 2, 3, 4, 0] rfl)
          · refine lv_iload_n hx hb dX4_swap_94 rfl (lv_at hl 1 rfl) ?_
            refine lv_goto (tgt := 105) hx hb dX4_swap_95 (by decide) ?_
            refine xr_ti (x := (nI a)) (y := (swp ow (nI a) (nI b) k)) (by unfold swp; rw [if_neg c1, if_pos c2]) ?_
            refine xr_iast hx hb hE hS (Or.inl (Or.inr (Or.inl rfl))) ((hM).2.1) (i := k) (by omega) (by omega) dX4_swap_105 (fun H_10 L_11 hI_ hz_12 ho_13 hS => ?_)
            have hI_ : xI E aW 40 (swf ow (nI a) (nI b) (k + 1)) H_10 := by rw [← (swf_s ow (nI a) (nI b) k)]; exact hI_
            have hM := hM.setW hd hI_ (fun q _ h => ho_13 q h)
            refine lv_iinc (v := (nI (k + 1))) (lv' := [(4, .int (nI (k + 1))), (0, .ref mo), (1, .int (nI a)), (2, .int (nI b)), (3, .int (nI (btrN (tk ts so) ow n a b)))]) hx hb dX4_swap_106 hl (k := 4) rfl (nI_add k 1) (by decide) rfl (fun ls hl => ?_)
            refine lv_goto (tgt := 53) hx hb dX4_swap_109 (by decide) ?_
            exact ih (k + 1) (by omega) (by omega) _ _ (⟨trivial, hM⟩) hS ls (lv_sub hl [1, 2, 3, 4, 0] rfl)
        · refine lv_iload_n hx hb dX4_swap_79 rfl (lv_at hl 2 rfl) ?_
          refine lv_goto (tgt := 105) hx hb dX4_swap_80 (by decide) ?_
          refine xr_ti (x := (nI b)) (y := (swp ow (nI a) (nI b) k)) (by unfold swp; rw [if_pos c1]) ?_
          refine xr_iast hx hb hE hS (Or.inl (Or.inr (Or.inl rfl))) ((hM).2.1) (i := k) (by omega) (by omega) dX4_swap_105 (fun H_14 L_15 hI_ hz_16 ho_17 hS => ?_)
          have hI_ : xI E aW 40 (swf ow (nI a) (nI b) (k + 1)) H_14 := by rw [← (swf_s ow (nI a) (nI b) k)]; exact hI_
          have hM := hM.setW hd hI_ (fun q _ h => ho_17 q h)
          refine lv_iinc (v := (nI (k + 1))) (lv' := [(4, .int (nI (k + 1))), (0, .ref mo), (1, .int (nI a)), (2, .int (nI b)), (3, .int (nI (btrN (tk ts so) ow n a b)))]) hx hb dX4_swap_106 hl (k := 4) rfl (nI_add k 1) (by decide) rfl (fun ls hl => ?_)
          refine lv_goto (tgt := 53) hx hb dX4_swap_109 (by decide) ?_
          exact ih (k + 1) (by omega) (by omega) _ _ (⟨trivial, hM⟩) hS ls (lv_sub hl [1, 2, 3, 4, 0] rfl)
  exact lp (n + 1) 0 (by omega) (by omega) _ _ (⟨trivial, by rw [swf_0]; exact hM⟩) hS ls (lv_sub hl [2, 3, 4, 1, 0] rfl)

set_option maxHeartbeats 4000000 in
set_option maxRecDepth 100000 in
theorem mt_swap_no (l : Launch) (E : xG) (mo aS aT aW aO : Nat) (tr : Nat → Nat) (th : Int32) (n : Nat) (so : Nat → Nat) (m : Nat) (ts : Nat → Nat → Nat) (sh : Int32) (ow ot : Nat → Int32) (sz : Nat) (x y : Int32) (h : ¬ vp_in x m ∨ ¬ vp_in y m) (hn : n ≤ 40) (hm : m ≤ 5) (hd : xMd mo aS aT aW aO tr) (hso : ∀ k, so k < 5) (hts9 : ∀ e k, ts e k ≤ 9) : Met l yX4_swap (ws_ yX4_swap cX4_swap 5 (some .boolean)) ({ frames := 7, cells := 0, slots := 0, locals := 280 } : Room) (xPre E (fun q => xMF mo aS aT aW aO tr q ∨ sz ≤ q) [.ref mo, .int x, .int y] (fun H => H.size = sz ∧ xM E mo aS aT aW aO tr th n so m ts sh ow ot H)) (xQ (fun q => xMF mo aS aT aW aO tr q ∨ sz ≤ q) (fun v H => v = .int (nI 0) ∧ xM E mo aS aT aW aO tr (nI 1) n so m ts sh ow ot H)) 0 0 (fun q => xMF mo aS aT aW aO tr q ∨ sz ≤ q) := by
  refine Met.ofW (cc := cX4_swap) (maxL := 5) (ret := (some .boolean)) (by decide) rfl ?_
  intro P0 e0 s m0 args below meth c0 s₁ B hml hv
  obtain ⟨rfl, hE, hsz, hM⟩ := hv
  have hx := B.exec
  have hb := B.bytes
  have hr := B.returns
  have hts := atoms_spec (ws := ws_ yX4_swap cX4_swap 5 (some .boolean)) B.pre
  have hts : ∀ w ∈ lw_all, w.before _ s = true := fun w h => hts w (List.mem_cons_of_mem _ h)
  have hown : s.vm.findClass RX4 = some m0.cls := findClass_of_methodNamed B.named
  have hlocks := B.notSynchronized
  have hS : va_S (fun q => xMF mo aS aT aW aO tr q ∨ sz ≤ q) s.heap s.heap [] := va_S.rf
  have hl := lv_entry ([.ref mo, .int x, .int y]) (n := 5) (Nat.le_of_ble_eq_true rfl)
  rw [lg_entry_eq]
  generalize (lg_sl ([.ref mo, .int x, .int y]) ++ List.replicate (5 - (lg_sl ([.ref mo, .int x, .int y])).length) Slot.unset).toArray = ls at hl ⊢
  have hl : lv_has ls 5 [(0, .ref mo), (1, .int x), (2, .int y)] := hl
  refine lv_aload_n hx hb dX4_swap_0 rfl (lv_at hl 0 rfl) ?_
  refine lv_aload_n hx hb dX4_swap_1 rfl (lv_at hl 0 rfl) ?_
  refine lv_iload_n hx hb dX4_swap_2 rfl (lv_at hl 1 rfl) ?_
  by_cases h1 : vp_in x m
  · refine xr_ro (va_runV (As := [.int x]) (rest := [.ref mo]) ⟨hx, hb, hml, hown, hts⟩ (mt_isEater_t l E (fun q => xMF mo aS aT aW aO tr q ∨ sz ≤ q) mo aS aT aW aO tr th n so m ts sh x hn hm h1) (cwV 1 hts (lw_V q846 q848 qs15 q44 q849) rfl rfl rfl (by decide +kernel) ⟨Nat.le_of_ble_eq_true rfl, Nat.le_of_ble_eq_true rfl⟩) ⟨xPre_blind, ((hM).1.1).recv hE rfl, fun U hU hW => xPre_at hE hS (fun _ h => h) hM.1 hU hW⟩ rfl rfl hl.1 rfl (lv_room (Nat.le_of_ble_eq_true rfl)) dX4_swap_3 ⟨(show 0 + 0 ≤ 0 by omega), (show 0 + 0 ≤ 0 by omega)⟩) ?_
    refine xr_zeq (tgt := 17) hx hb dX4_swap_6 (by decide) (by omega) (fun c_ => absurd c_ (by omega)) (fun c_ => ?_)
    refine lv_aload_n hx hb dX4_swap_9 rfl (lv_at hl 0 rfl) ?_
    refine lv_iload_n hx hb dX4_swap_10 rfl (lv_at hl 2 rfl) ?_
    refine xr_ro (va_runV (As := [.int y]) (rest := [.ref mo]) ⟨hx, hb, hml, hown, hts⟩ (mt_isEater_f l E (fun q => xMF mo aS aT aW aO tr q ∨ sz ≤ q) mo aS aT aW aO tr th n so m ts sh y hn hm (h.resolve_left (fun q => q h1))) (cwV 1 hts (lw_V q846 q848 qs15 q44 q849) rfl rfl rfl (by decide +kernel) ⟨Nat.le_of_ble_eq_true rfl, Nat.le_of_ble_eq_true rfl⟩) ⟨xPre_blind, ((hM).1.1).recv hE rfl, fun U hU hW => xPre_at hE hS (fun _ h => h) hM.1 hU hW⟩ rfl rfl hl.1 rfl (lv_room (Nat.le_of_ble_eq_true rfl)) dX4_swap_11 ⟨(show 0 + 0 ≤ 0 by omega), (show 0 + 0 ≤ 0 by omega)⟩) ?_
    refine xr_zne (tgt := 21) hx hb dX4_swap_14 (by decide) (by omega) (fun c_ => absurd c_ (by omega)) (fun c_ => ?_)
    refine lv_iconst (v := (nI 1)) hx hb dX4_swap_17 (by decide) ?_
    refine lv_goto (tgt := 31) hx hb dX4_swap_18 (by decide) ?_
    refine xr_put hx hb hts in_X4 tyX4 tyX4_ok nmX4 hown hE hS (Or.inl (Or.inl (Or.inl rfl))) ((hM).1.1) rfl 0 (by decide) (hts _ q787) (fun _ h => h) rfl (ty := tyX4 0) (by decide) rfl rfl (Nat.le_of_ble_eq_true rfl) dX4_swap_31 (fun H_1 L_2 hO_ hz_3 ho_4 hS => ?_)
    have hO_ : xO E mo 3 [.int (nI 1), .int (nI n), .ref aS, .int (nI m), .ref aT, .int sh, .ref aW, .ref aO] H_1 := hO_
    have hM := hM.put hd hO_ (fun q _ h => ho_4 q h)
    refine lv_aload_n hx hb dX4_swap_34 rfl (lv_at hl 0 rfl) ?_
    refine xr_get hx hb hts in_X4 hown hE ((hM).1.1) rfl 0 (by decide) (hts _ q787) (fun _ h => h) rfl dX4_swap_35 ?_
    refine xr_zeq (tgt := 43) hx hb dX4_swap_38 (by decide) (by omega) (fun c_ => absurd c_ (by omega)) (fun c_ => ?_)
    refine lv_iconst (v := (nI 0)) hx hb dX4_swap_41 (by decide) ?_
    exact W.zret hx hb hr rfl (fun t ht hW => ⟨⟨_, rfl, by rw [ht]; exact ⟨rfl, hM⟩⟩, hS.F ht⟩) hS.2.2 dX4_swap_42
  · refine xr_ro (va_runV (As := [.int x]) (rest := [.ref mo]) ⟨hx, hb, hml, hown, hts⟩ (mt_isEater_f l E (fun q => xMF mo aS aT aW aO tr q ∨ sz ≤ q) mo aS aT aW aO tr th n so m ts sh x hn hm h1) (cwV 1 hts (lw_V q846 q848 qs15 q44 q849) rfl rfl rfl (by decide +kernel) ⟨Nat.le_of_ble_eq_true rfl, Nat.le_of_ble_eq_true rfl⟩) ⟨xPre_blind, ((hM).1.1).recv hE rfl, fun U hU hW => xPre_at hE hS (fun _ h => h) hM.1 hU hW⟩ rfl rfl hl.1 rfl (lv_room (Nat.le_of_ble_eq_true rfl)) dX4_swap_3 ⟨(show 0 + 0 ≤ 0 by omega), (show 0 + 0 ≤ 0 by omega)⟩) ?_
    refine xr_zeq (tgt := 17) hx hb dX4_swap_6 (by decide) (by omega) (fun c_ => ?_) (fun c_ => absurd c_ (by omega))
    refine lv_iconst (v := (nI 1)) hx hb dX4_swap_17 (by decide) ?_
    refine lv_goto (tgt := 31) hx hb dX4_swap_18 (by decide) ?_
    refine xr_put hx hb hts in_X4 tyX4 tyX4_ok nmX4 hown hE hS (Or.inl (Or.inl (Or.inl rfl))) ((hM).1.1) rfl 0 (by decide) (hts _ q787) (fun _ h => h) rfl (ty := tyX4 0) (by decide) rfl rfl (Nat.le_of_ble_eq_true rfl) dX4_swap_31 (fun H_5 L_6 hO_ hz_7 ho_8 hS => ?_)
    have hO_ : xO E mo 3 [.int (nI 1), .int (nI n), .ref aS, .int (nI m), .ref aT, .int sh, .ref aW, .ref aO] H_5 := hO_
    have hM := hM.put hd hO_ (fun q _ h => ho_8 q h)
    refine lv_aload_n hx hb dX4_swap_34 rfl (lv_at hl 0 rfl) ?_
    refine xr_get hx hb hts in_X4 hown hE ((hM).1.1) rfl 0 (by decide) (hts _ q787) (fun _ h => h) rfl dX4_swap_35 ?_
    refine xr_zeq (tgt := 43) hx hb dX4_swap_38 (by decide) (by omega) (fun c_ => absurd c_ (by omega)) (fun c_ => ?_)
    refine lv_iconst (v := (nI 0)) hx hb dX4_swap_41 (by decide) ?_
    exact W.zret hx hb hr rfl (fun t ht hW => ⟨⟨_, rfl, by rw [ht]; exact ⟨rfl, hM⟩⟩, hS.F ht⟩) hS.2.2 dX4_swap_42

set_option maxHeartbeats 4000000 in
set_option maxRecDepth 100000 in
theorem mt_swap_no2 (l : Launch) (E : xG) (mo aS aT aW aO : Nat) (tr : Nat → Nat) (th : Int32) (n : Nat) (so : Nat → Nat) (m : Nat) (ts : Nat → Nat → Nat) (sh : Int32) (ow ot : Nat → Int32) (sz : Nat) (x : Int32) (h1 : vp_in x m) (hn : n ≤ 40) (hm : m ≤ 5) (hd : xMd mo aS aT aW aO tr) (hso : ∀ k, so k < 5) (hts9 : ∀ e k, ts e k ≤ 9) : Met l yX4_swap (ws_ yX4_swap cX4_swap 5 (some .boolean)) ({ frames := 7, cells := 0, slots := 0, locals := 280 } : Room) (xPre E (fun q => xMF mo aS aT aW aO tr q ∨ sz ≤ q) [.ref mo, .int x, .int x] (fun H => H.size = sz ∧ xM E mo aS aT aW aO tr th n so m ts sh ow ot H)) (xQ (fun q => xMF mo aS aT aW aO tr q ∨ sz ≤ q) (fun v H => v = .int (nI 0) ∧ xM E mo aS aT aW aO tr (nI 2) n so m ts sh ow ot H)) 0 0 (fun q => xMF mo aS aT aW aO tr q ∨ sz ≤ q) := by
  refine Met.ofW (cc := cX4_swap) (maxL := 5) (ret := (some .boolean)) (by decide) rfl ?_
  intro P0 e0 s m0 args below meth c0 s₁ B hml hv
  obtain ⟨rfl, hE, hsz, hM⟩ := hv
  have hx := B.exec
  have hb := B.bytes
  have hr := B.returns
  have hts := atoms_spec (ws := ws_ yX4_swap cX4_swap 5 (some .boolean)) B.pre
  have hts : ∀ w ∈ lw_all, w.before _ s = true := fun w h => hts w (List.mem_cons_of_mem _ h)
  have hown : s.vm.findClass RX4 = some m0.cls := findClass_of_methodNamed B.named
  have hlocks := B.notSynchronized
  have hS : va_S (fun q => xMF mo aS aT aW aO tr q ∨ sz ≤ q) s.heap s.heap [] := va_S.rf
  have hl := lv_entry ([.ref mo, .int x, .int x]) (n := 5) (Nat.le_of_ble_eq_true rfl)
  rw [lg_entry_eq]
  generalize (lg_sl ([.ref mo, .int x, .int x]) ++ List.replicate (5 - (lg_sl ([.ref mo, .int x, .int x])).length) Slot.unset).toArray = ls at hl ⊢
  have hl : lv_has ls 5 [(0, .ref mo), (1, .int x), (2, .int x)] := hl
  refine lv_aload_n hx hb dX4_swap_0 rfl (lv_at hl 0 rfl) ?_
  refine lv_aload_n hx hb dX4_swap_1 rfl (lv_at hl 0 rfl) ?_
  refine lv_iload_n hx hb dX4_swap_2 rfl (lv_at hl 1 rfl) ?_
  refine xr_ro (va_runV (As := [.int x]) (rest := [.ref mo]) ⟨hx, hb, hml, hown, hts⟩ (mt_isEater_t l E (fun q => xMF mo aS aT aW aO tr q ∨ sz ≤ q) mo aS aT aW aO tr th n so m ts sh x hn hm h1) (cwV 1 hts (lw_V q846 q848 qs15 q44 q849) rfl rfl rfl (by decide +kernel) ⟨Nat.le_of_ble_eq_true rfl, Nat.le_of_ble_eq_true rfl⟩) ⟨xPre_blind, ((hM).1.1).recv hE rfl, fun U hU hW => xPre_at hE hS (fun _ h => h) hM.1 hU hW⟩ rfl rfl hl.1 rfl (lv_room (Nat.le_of_ble_eq_true rfl)) dX4_swap_3 ⟨(show 0 + 0 ≤ 0 by omega), (show 0 + 0 ≤ 0 by omega)⟩) ?_
  refine xr_zeq (tgt := 17) hx hb dX4_swap_6 (by decide) (by omega) (fun c_ => absurd c_ (by omega)) (fun c_ => ?_)
  refine lv_aload_n hx hb dX4_swap_9 rfl (lv_at hl 0 rfl) ?_
  refine lv_iload_n hx hb dX4_swap_10 rfl (lv_at hl 2 rfl) ?_
  refine xr_ro (va_runV (As := [.int x]) (rest := [.ref mo]) ⟨hx, hb, hml, hown, hts⟩ (mt_isEater_t l E (fun q => xMF mo aS aT aW aO tr q ∨ sz ≤ q) mo aS aT aW aO tr th n so m ts sh x hn hm h1) (cwV 1 hts (lw_V q846 q848 qs15 q44 q849) rfl rfl rfl (by decide +kernel) ⟨Nat.le_of_ble_eq_true rfl, Nat.le_of_ble_eq_true rfl⟩) ⟨xPre_blind, ((hM).1.1).recv hE rfl, fun U hU hW => xPre_at hE hS (fun _ h => h) hM.1 hU hW⟩ rfl rfl hl.1 rfl (lv_room (Nat.le_of_ble_eq_true rfl)) dX4_swap_11 ⟨(show 0 + 0 ≤ 0 by omega), (show 0 + 0 ≤ 0 by omega)⟩) ?_
  refine xr_zne (tgt := 21) hx hb dX4_swap_14 (by decide) (by omega) (fun c_ => ?_) (fun c_ => absurd c_ (by omega))
  refine lv_iload_n hx hb dX4_swap_21 rfl (lv_at hl 1 rfl) ?_
  refine lv_iload_n hx hb dX4_swap_22 rfl (lv_at hl 2 rfl) ?_
  refine lv_icmp_ne (tgt := 30) hx hb dX4_swap_23 (by decide) (fun c_ => absurd rfl c_) (fun c_ => ?_)
  refine lv_iconst (v := (nI 2)) hx hb dX4_swap_26 (by decide) ?_
  refine lv_goto (tgt := 31) hx hb dX4_swap_27 (by decide) ?_
  refine xr_put hx hb hts in_X4 tyX4 tyX4_ok nmX4 hown hE hS (Or.inl (Or.inl (Or.inl rfl))) ((hM).1.1) rfl 0 (by decide) (hts _ q787) (fun _ h => h) rfl (ty := tyX4 0) (by decide) rfl rfl (Nat.le_of_ble_eq_true rfl) dX4_swap_31 (fun H_1 L_2 hO_ hz_3 ho_4 hS => ?_)
  have hO_ : xO E mo 3 [.int (nI 2), .int (nI n), .ref aS, .int (nI m), .ref aT, .int sh, .ref aW, .ref aO] H_1 := hO_
  have hM := hM.put hd hO_ (fun q _ h => ho_4 q h)
  refine lv_aload_n hx hb dX4_swap_34 rfl (lv_at hl 0 rfl) ?_
  refine xr_get hx hb hts in_X4 hown hE ((hM).1.1) rfl 0 (by decide) (hts _ q787) (fun _ h => h) rfl dX4_swap_35 ?_
  refine xr_zeq (tgt := 43) hx hb dX4_swap_38 (by decide) (by omega) (fun c_ => absurd c_ (by omega)) (fun c_ => ?_)
  refine lv_iconst (v := (nI 0)) hx hb dX4_swap_41 (by decide) ?_
  exact W.zret hx hb hr rfl (fun t ht hW => ⟨⟨_, rfl, by rw [ht]; exact ⟨rfl, hM⟩⟩, hS.F ht⟩) hS.2.2 dX4_swap_42

set_option maxHeartbeats 4000000 in
set_option maxRecDepth 100000 in
theorem mt_tried (l : Launch) (E : xG) (mo aS aT aW aO : Nat) (tr : Nat → Nat)  (n : Nat) (so : Nat → Nat) (m : Nat) (ts : Nat → Nat → Nat) (sh : Int32) (ow ot : Nat → Int32) (sz way : Nat) (hw : way < 4) (hn : n ≤ 40) (hm : m ≤ 5) (hd : xMd mo aS aT aW aO tr) (hso : ∀ k, so k < 5) (hts9 : ∀ e k, ts e k ≤ 9) : Met l yX4_tried (ws_ yX4_tried cX4_tried 2 (some .int)) ({ frames := 6, cells := 2, slots := 6, locals := 240 } : Room) (xPre E (fun q => xMF mo aS aT aW aO tr q ∨ sz ≤ q) [.ref mo, .int (nI way)] (fun H => H.size = sz ∧ xM E mo aS aT aW aO tr (nI 0) n so m ts sh ow ot H)) (xQ (fun q => xMF mo aS aT aW aO tr q ∨ sz ≤ q) (fun v H => v = .int (trd (tk ts so) n m way) ∧ ∃ ot', xM E mo aS aT aW aO tr (nI 0) n so m ts sh ow ot' H)) 2 6 (fun q => xMF mo aS aT aW aO tr q ∨ sz ≤ q) := by
  refine Met.ofW (cc := cX4_tried) (maxL := 2) (ret := (some .int)) (by decide) rfl ?_
  intro P0 e0 s m0 args below meth c0 s₁ B hml hv
  obtain ⟨rfl, hE, hsz, hM⟩ := hv
  have hx := B.exec
  have hb := B.bytes
  have hr := B.returns
  have hts := atoms_spec (ws := ws_ yX4_tried cX4_tried 2 (some .int)) B.pre
  have hts : ∀ w ∈ lw_all, w.before _ s = true := fun w h => hts w (List.mem_cons_of_mem _ h)
  have hown : s.vm.findClass RX4 = some m0.cls := findClass_of_methodNamed B.named
  have hlocks := B.notSynchronized
  have hS : va_S (fun q => xMF mo aS aT aW aO tr q ∨ sz ≤ q) s.heap s.heap [] := va_S.rf
  have hl := lv_entry ([.ref mo, .int (nI way)]) (n := 2) (Nat.le_of_ble_eq_true rfl)
  rw [lg_entry_eq]
  generalize (lg_sl ([.ref mo, .int (nI way)]) ++ List.replicate (2 - (lg_sl ([.ref mo, .int (nI way)])).length) Slot.unset).toArray = ls at hl ⊢
  have hl : lv_has ls 2 [(0, .ref mo), (1, .int (nI way))] := hl
  have hx3 : xNeed way ≤ 3 := by unfold xNeed; split <;> (try split) <;> omega
  refine lv_aload_n hx hb dX4_tried_0 rfl (lv_at hl 0 rfl) ?_
  refine xr_get hx hb hts in_X4 hown hE ((hM).1.1) rfl 3 (by decide) (hts _ q790) (fun _ h => h) rfl dX4_tried_1 ?_
  refine va_gets hx hb hE.2.2.2.2.2.1 hS hown (hts _ q858) (fun _ h => h) dX4_tried_4 ?_
  refine lv_iload_n hx hb dX4_tried_7 rfl (lv_at hl 1 rfl) ?_
  refine va_ti hx hb hE.2.2.2.2.2.2.1 hS (vp_in_nI (n := way) hw (by omega)) (v := .int (nI (xNeed way))) (by rw [nI_clamp (by omega)]) dX4_tried_8 ?_
  refine xr_cge (tgt := 14) hx hb dX4_tried_9 (by decide) (by omega) (by omega) (fun c1 => ?_) (fun c1 => ?_)
  · refine lv_aload_n hx hb dX4_tried_14 rfl (lv_at hl 0 rfl) ?_
    refine lv_aload_n hx hb dX4_tried_15 rfl (lv_at hl 0 rfl) ?_
    refine xr_get hx hb hts in_X4 hown hE ((hM).1.1) rfl 7 (by decide) (hts _ q794) (fun _ h => h) rfl dX4_tried_16 ?_
    refine lv_iload_n hx hb dX4_tried_19 rfl (lv_at hl 1 rfl) ?_
    refine xr_muv (va_runV (As := [.ref aO, .int (nI way)]) (rest := []) ⟨hx, hb, hml, hown, hts⟩ (mt_give2 l E mo aS aT aW aO tr (nI 0) n so m ts sh aO ot way s.heap.size hw c1 hm hn hd.o hso hts9) (cwV 2 hts (lw_V q860 q862 qs16 q44 q863) rfl rfl rfl (by decide +kernel) ⟨Nat.le_of_ble_eq_true rfl, Nat.le_of_ble_eq_true rfl⟩) ⟨xPre_blind, ((hM).1.1).recv hE rfl, fun U hU hW => xPre_at hE hS (fun q h => h.elim (fun e => Or.inl (Or.inr (Or.inr e))) (fun h => Or.inr (Nat.le_trans (by have := hS.1; omega) h))) (⟨rfl, hM.1, hM.2.2⟩) hU hW⟩ rfl rfl hl.1 rfl (lv_room (Nat.le_of_ble_eq_true rfl)) dX4_tried_20 ⟨(show 0 + 2 ≤ 2 by omega), (show 0 + 6 ≤ 6 by omega)⟩) hS (fun q h => h.elim (fun e => Or.inl (Or.inr (Or.inr e))) (fun h => Or.inr (Nat.le_trans (by have := hS.1; omega) h))) (fun q h => h.elim (fun e => Or.inl (Or.inr (Or.inr e))) (fun h => Or.inr (Nat.le_trans (by have := hS.1; omega) h))) (fun H_1 L_2 hP_ hz_3 hk_4 hS => ?_)
    have hR_ := hP_
    have hM := hM.setO hd hR_ (fun q h1 h2 => hk_4 q h1 (fun z => z.elim h2 (fun z => absurd z (Nat.not_le.mpr h1))))
    refine lv_aload_n hx hb dX4_tried_23 rfl (lv_at hl 0 rfl) ?_
    refine lv_aload_n hx hb dX4_tried_24 rfl (lv_at hl 0 rfl) ?_
    refine xr_get hx hb hts in_X4 hown hE ((hM).1.1) rfl 7 (by decide) (hts _ q794) (fun _ h => h) rfl dX4_tried_25 ?_
    refine xr_ro (va_runV (As := [.ref aO]) (rest := []) ⟨hx, hb, hml, hown, hts⟩ (mt_allEnvy l E (fun q => xMF mo aS aT aW aO tr q ∨ sz ≤ q) mo aS aT aW aO tr (nI 0) n so m ts sh aO (wGive (tk ts so) n m way) hn hm hso hts9) (cwV 1 hts (lw_V q956 q958 qs31 q44 q959) rfl rfl rfl (by decide +kernel) ⟨Nat.le_of_ble_eq_true rfl, Nat.le_of_ble_eq_true rfl⟩) ⟨xPre_blind, ((hM).1.1).recv hE rfl, fun U hU hW => xPre_at hE hS (fun _ h => h) (⟨hM.1, hM.2.2⟩) hU hW⟩ rfl rfl hl.1 rfl (lv_room (Nat.le_of_ble_eq_true rfl)) dX4_tried_28 ⟨(show 2 + 0 ≤ 2 by omega), (show 6 + 0 ≤ 6 by omega)⟩) ?_
    refine xr_ti (x := (nI (ae (tk ts so) (wGive (tk ts so) n m way) n m))) (y := (trd (tk ts so) n m way)) (by unfold trd; rw [if_neg (by omega)]) ?_
    exact W.iret hx hb hr (fun t ht hW => ⟨⟨_, rfl, by rw [ht]; exact ⟨rfl, _, hM⟩⟩, hS.F ht⟩) hS.2.2 dX4_tried_31
  · refine lv_iconst (v := (-1)) hx hb dX4_tried_12 (by decide) ?_
    refine xr_ti (x := (-1)) (y := (trd (tk ts so) n m way)) (by unfold trd; rw [if_pos c1]) ?_
    refine W.widen (k := 2) (n := 6) (by omega) (by omega) ?_
    exact W.iret hx hb hr (fun t ht hW => ⟨⟨_, rfl, by rw [ht]; exact ⟨rfl, _, hM⟩⟩, hS.F ht⟩) hS.2.2 dX4_tried_13

set_option maxHeartbeats 4000000 in
set_option maxRecDepth 100000 in
theorem mt_would_ok (l : Launch) (E : xG) (mo aS aT aW aO : Nat) (tr : Nat → Nat) (th : Int32) (n : Nat) (so : Nat → Nat) (m : Nat) (ts : Nat → Nat → Nat) (sh : Int32) (ow ot : Nat → Int32) (sz : Nat) (way : Nat) (hw : way < 4) (hn : n ≤ 40) (hm : m ≤ 5) (hd : xMd mo aS aT aW aO tr) (hso : ∀ k, so k < 5) (hts9 : ∀ e k, ts e k ≤ 9) : Met l yX4_would (ws_ yX4_would cX4_would 2 (some .int)) ({ frames := 8, cells := 2, slots := 6, locals := 320 } : Room) (xPre E (fun q => xMF mo aS aT aW aO tr q ∨ sz ≤ q) [.ref mo, .int (nI way)] (fun H => H.size = sz ∧ xM E mo aS aT aW aO tr th n so m ts sh ow ot H)) (xQ (fun q => xMF mo aS aT aW aO tr q ∨ sz ≤ q) (fun v H => v = .int (trd (tk ts so) n m way) ∧ ∃ ot', xM E mo aS aT aW aO tr (nI 0) n so m ts sh ow ot' H)) 2 6 (fun q => xMF mo aS aT aW aO tr q ∨ sz ≤ q) := by
  refine Met.ofW (cc := cX4_would) (maxL := 2) (ret := (some .int)) (by decide) rfl ?_
  intro P0 e0 s m0 args below meth c0 s₁ B hml hv
  obtain ⟨rfl, hE, hsz, hM⟩ := hv
  have hx := B.exec
  have hb := B.bytes
  have hr := B.returns
  have hts := atoms_spec (ws := ws_ yX4_would cX4_would 2 (some .int)) B.pre
  have hts : ∀ w ∈ lw_all, w.before _ s = true := fun w h => hts w (List.mem_cons_of_mem _ h)
  have hown : s.vm.findClass RX4 = some m0.cls := findClass_of_methodNamed B.named
  have hlocks := B.notSynchronized
  have hS : va_S (fun q => xMF mo aS aT aW aO tr q ∨ sz ≤ q) s.heap s.heap [] := va_S.rf
  have hl := lv_entry ([.ref mo, .int (nI way)]) (n := 2) (Nat.le_of_ble_eq_true rfl)
  rw [lg_entry_eq]
  generalize (lg_sl ([.ref mo, .int (nI way)]) ++ List.replicate (2 - (lg_sl ([.ref mo, .int (nI way)])).length) Slot.unset).toArray = ls at hl ⊢
  have hl : lv_has ls 2 [(0, .ref mo), (1, .int (nI way))] := hl
  refine lv_aload_n hx hb dX4_would_0 rfl (lv_at hl 0 rfl) ?_
  refine lv_iconst (v := (nI 0)) hx hb dX4_would_1 (by decide) ?_
  refine xr_put hx hb hts in_X4 tyX4 tyX4_ok nmX4 hown hE hS (Or.inl (Or.inl (Or.inl rfl))) ((hM).1.1) rfl 0 (by decide) (hts _ q787) (fun _ h => h) rfl (ty := tyX4 0) (by decide) rfl rfl (Nat.le_of_ble_eq_true rfl) dX4_would_2 (fun H_1 L_2 hO_ hz_3 ho_4 hS => ?_)
  have hO_ : xO E mo 3 [.int (nI 0), .int (nI n), .ref aS, .int (nI m), .ref aT, .int sh, .ref aW, .ref aO] H_1 := hO_
  have hM := hM.put hd hO_ (fun q _ h => ho_4 q h)
  refine lv_iload_n hx hb dX4_would_5 rfl (lv_at hl 1 rfl) ?_
  refine lv_iconst (v := (nI 0)) hx hb dX4_would_6 (by decide) ?_
  refine lv_iconst (v := (nI 3)) hx hb dX4_would_7 (by decide) ?_
  refine xr_ro (va_runS (As := [.int (nI way), .int (nI 0), .int (nI 3)]) (rest := []) ⟨hx, hb, hml, hown, hts⟩ (mt_isIn_t l E (fun q => xMF mo aS aT aW aO tr q ∨ sz ≤ q) (nI way) (nI 0) (nI 3) (nI_le (by omega) (by omega)) (nI_le (by omega) (by omega))) (va_cwS 3 hts (lw_S q820 q821 q44 q822) rfl rfl rfl (by decide +kernel) ⟨Nat.le_of_ble_eq_true rfl, Nat.le_of_ble_eq_true rfl⟩) ⟨xPre_blind, fun U hU hW => xPre_at hE hS (fun _ h => h) trivial hU hW⟩ rfl rfl hl.1 rfl (lv_room (Nat.le_of_ble_eq_true rfl)) dX4_would_8 ⟨(show 0 + 0 ≤ 2 by omega), (show 0 + 0 ≤ 6 by omega)⟩) ?_
  refine xr_zeq (tgt := 22) hx hb dX4_would_11 (by decide) (by omega) (fun c_ => absurd c_ (by omega)) (fun c_ => ?_)
  refine lv_aload_n hx hb dX4_would_14 rfl (lv_at hl 0 rfl) ?_
  refine lv_iload_n hx hb dX4_would_15 rfl (lv_at hl 1 rfl) ?_
  refine xr_mu (va_runV (As := [.int (nI way)]) (rest := []) ⟨hx, hb, hml, hown, hts⟩ (mt_tried l E mo aS aT aW aO tr n so m ts sh ow ot H_1.size way hw hn hm hd hso hts9) (cwV 1 hts (lw_V q968 q970 qs32 q44 q971) rfl rfl rfl (by decide +kernel) ⟨Nat.le_of_ble_eq_true rfl, Nat.le_of_ble_eq_true rfl⟩) ⟨xPre_blind, ((hM).1.1).recv hE rfl, fun U hU hW => xPre_at hE hS (fun q h => h.elim Or.inl (fun h => Or.inr (Nat.le_trans (by have := hS.1; omega) h))) (⟨rfl, hM⟩) hU hW⟩ rfl rfl hl.1 rfl (lv_room (Nat.le_of_ble_eq_true rfl)) dX4_would_16 ⟨(show 0 + 2 ≤ 2 by omega), (show 0 + 6 ≤ 6 by omega)⟩) hS (fun q h => h.elim Or.inl (fun h => Or.inr (Nat.le_trans (by have := hS.1; omega) h))) (fun q h => h.elim Or.inl (fun h => Or.inr (Nat.le_trans (by have := hS.1; omega) h))) (fun vv H_5 L_6 hP_ hz_7 hk_8 hS => ?_)
  obtain ⟨hv_, ot2, hM⟩ := hP_
  subst hv_
  refine lv_goto (tgt := 27) hx hb dX4_would_19 (by decide) ?_
  exact W.iret hx hb hr (fun t ht hW => ⟨⟨_, rfl, by rw [ht]; exact ⟨rfl, _, hM⟩⟩, hS.F ht⟩) hS.2.2 dX4_would_27

set_option maxHeartbeats 4000000 in
set_option maxRecDepth 100000 in
theorem mt_would_no (l : Launch) (E : xG) (mo aS aT aW aO : Nat) (tr : Nat → Nat) (th : Int32) (n : Nat) (so : Nat → Nat) (m : Nat) (ts : Nat → Nat → Nat) (sh : Int32) (ow ot : Nat → Int32) (sz : Nat) (x : Int32) (h : ¬ vp_in x 4) (hn : n ≤ 40) (hm : m ≤ 5) (hd : xMd mo aS aT aW aO tr) (hso : ∀ k, so k < 5) (hts9 : ∀ e k, ts e k ≤ 9) : Met l yX4_would (ws_ yX4_would cX4_would 2 (some .int)) ({ frames := 8, cells := 0, slots := 0, locals := 320 } : Room) (xPre E (fun q => xMF mo aS aT aW aO tr q ∨ sz ≤ q) [.ref mo, .int x] (fun H => H.size = sz ∧ xM E mo aS aT aW aO tr th n so m ts sh ow ot H)) (xQ (fun q => xMF mo aS aT aW aO tr q ∨ sz ≤ q) (fun v H => v = .int (nI 0) ∧ xM E mo aS aT aW aO tr (nI 1) n so m ts sh ow ot H)) 0 0 (fun q => xMF mo aS aT aW aO tr q ∨ sz ≤ q) := by
  refine Met.ofW (cc := cX4_would) (maxL := 2) (ret := (some .int)) (by decide) rfl ?_
  intro P0 e0 s m0 args below meth c0 s₁ B hml hv
  obtain ⟨rfl, hE, hsz, hM⟩ := hv
  have hx := B.exec
  have hb := B.bytes
  have hr := B.returns
  have hts := atoms_spec (ws := ws_ yX4_would cX4_would 2 (some .int)) B.pre
  have hts : ∀ w ∈ lw_all, w.before _ s = true := fun w h => hts w (List.mem_cons_of_mem _ h)
  have hown : s.vm.findClass RX4 = some m0.cls := findClass_of_methodNamed B.named
  have hlocks := B.notSynchronized
  have hS : va_S (fun q => xMF mo aS aT aW aO tr q ∨ sz ≤ q) s.heap s.heap [] := va_S.rf
  have hl := lv_entry ([.ref mo, .int x]) (n := 2) (Nat.le_of_ble_eq_true rfl)
  rw [lg_entry_eq]
  generalize (lg_sl ([.ref mo, .int x]) ++ List.replicate (2 - (lg_sl ([.ref mo, .int x])).length) Slot.unset).toArray = ls at hl ⊢
  have hl : lv_has ls 2 [(0, .ref mo), (1, .int x)] := hl
  refine lv_aload_n hx hb dX4_would_0 rfl (lv_at hl 0 rfl) ?_
  refine lv_iconst (v := (nI 0)) hx hb dX4_would_1 (by decide) ?_
  refine xr_put hx hb hts in_X4 tyX4 tyX4_ok nmX4 hown hE hS (Or.inl (Or.inl (Or.inl rfl))) ((hM).1.1) rfl 0 (by decide) (hts _ q787) (fun _ h => h) rfl (ty := tyX4 0) (by decide) rfl rfl (Nat.le_of_ble_eq_true rfl) dX4_would_2 (fun H_1 L_2 hO_ hz_3 ho_4 hS => ?_)
  have hO_ : xO E mo 3 [.int (nI 0), .int (nI n), .ref aS, .int (nI m), .ref aT, .int sh, .ref aW, .ref aO] H_1 := hO_
  have hM := hM.put hd hO_ (fun q _ h => ho_4 q h)
  refine lv_iload_n hx hb dX4_would_5 rfl (lv_at hl 1 rfl) ?_
  refine lv_iconst (v := (nI 0)) hx hb dX4_would_6 (by decide) ?_
  refine lv_iconst (v := (nI 3)) hx hb dX4_would_7 (by decide) ?_
  refine xr_ro (va_runS (As := [.int x, .int (nI 0), .int (nI 3)]) (rest := []) ⟨hx, hb, hml, hown, hts⟩ (mt_isIn_f l E (fun q => xMF mo aS aT aW aO tr q ∨ sz ≤ q) x (nI 0) (nI 3) (in_f (m := 4) h (by omega))) (va_cwS 3 hts (lw_S q820 q821 q44 q822) rfl rfl rfl (by decide +kernel) ⟨Nat.le_of_ble_eq_true rfl, Nat.le_of_ble_eq_true rfl⟩) ⟨xPre_blind, fun U hU hW => xPre_at hE hS (fun _ h => h) trivial hU hW⟩ rfl rfl hl.1 rfl (lv_room (Nat.le_of_ble_eq_true rfl)) dX4_would_8 ⟨(show 0 + 0 ≤ 0 by omega), (show 0 + 0 ≤ 0 by omega)⟩) ?_
  refine xr_zeq (tgt := 22) hx hb dX4_would_11 (by decide) (by omega) (fun c_ => ?_) (fun c_ => absurd c_ (by omega))
  refine lv_aload_n hx hb dX4_would_22 rfl (lv_at hl 0 rfl) ?_
  refine lv_iconst (v := (nI 1)) hx hb dX4_would_23 (by decide) ?_
  refine xr_mu (va_runV (As := [.int (nI 1)]) (rest := []) ⟨hx, hb, hml, hown, hts⟩ (mt_no l E mo aS aT aW aO (nI 0) n m sh 1) (cwV 1 hts (lw_V q823 q825 qs13 q44 q826) rfl rfl rfl (by decide +kernel) ⟨Nat.le_of_ble_eq_true rfl, Nat.le_of_ble_eq_true rfl⟩) ⟨xPre_blind, ((hM).1.1).recv hE rfl, fun U hU hW => xPre_at hE hS (fun q h => Or.inl (Or.inl (Or.inl h))) hM.1.1 hU hW⟩ rfl rfl hl.1 rfl (lv_room (Nat.le_of_ble_eq_true rfl)) dX4_would_24 ⟨(show 0 + 0 ≤ 0 by omega), (show 0 + 0 ≤ 0 by omega)⟩) hS (fun q h => Or.inl (Or.inl (Or.inl h))) (fun q h => Or.inl (Or.inl (Or.inl h))) (fun vv H_5 L_6 hP_ hz_7 hk_8 hS => ?_)
  obtain ⟨hv_, hO_⟩ := hP_
  subst hv_
  have hM := hM.put hd hO_ (fun q h1 h2 => hk_8 q h1 h2)
  exact W.iret hx hb hr (fun t ht hW => ⟨⟨_, rfl, by rw [ht]; exact ⟨rfl, hM⟩⟩, hS.F ht⟩) hS.2.2 dX4_would_27

set_option maxHeartbeats 4000000 in
set_option maxRecDepth 100000 in
theorem mt_best2 (l : Launch) (E : xG) (mo aS aT aW aO : Nat) (tr : Nat → Nat) (th : Int32) (n : Nat) (so : Nat → Nat) (m : Nat) (ts : Nat → Nat → Nat) (sh : Int32) (ow ot : Nat → Int32) (sz : Nat)  (hn : n ≤ 40) (hm : m ≤ 5) (hd : xMd mo aS aT aW aO tr) (hso : ∀ k, so k < 5) (hts9 : ∀ e k, ts e k ≤ 9) : Met l yX4_best_2 (ws_ yX4_best_2 cX4_best_2 5 (some .int)) ({ frames := 8, cells := 8, slots := 24, locals := 320 } : Room) (xPre E (fun q => xMF mo aS aT aW aO tr q ∨ sz ≤ q) [.ref mo] (fun H => H.size = sz ∧ xM E mo aS aT aW aO tr th n so m ts sh ow ot H)) (xQ (fun q => xMF mo aS aT aW aO tr q ∨ sz ≤ q) (fun v H => v = .int (oi (bst (trd (tk ts so) n m) 4)) ∧ ∃ ot', xM E mo aS aT aW aO tr (nI 0) n so m ts sh ow ot' H)) 8 24 (fun q => xMF mo aS aT aW aO tr q ∨ sz ≤ q) := by
  refine Met.ofW (cc := cX4_best_2) (maxL := 5) (ret := (some .int)) (by decide) rfl ?_
  intro P0 e0 s m0 args below meth c0 s₁ B hml hv
  obtain ⟨rfl, hE, hsz, hM⟩ := hv
  have hx := B.exec
  have hb := B.bytes
  have hr := B.returns
  have hts := atoms_spec (ws := ws_ yX4_best_2 cX4_best_2 5 (some .int)) B.pre
  have hts : ∀ w ∈ lw_all, w.before _ s = true := fun w h => hts w (List.mem_cons_of_mem _ h)
  have hown : s.vm.findClass RX4 = some m0.cls := findClass_of_methodNamed B.named
  have hlocks := B.notSynchronized
  have hS : va_S (fun q => xMF mo aS aT aW aO tr q ∨ sz ≤ q) s.heap s.heap [] := va_S.rf
  have hl := lv_entry ([.ref mo]) (n := 5) (Nat.le_of_ble_eq_true rfl)
  rw [lg_entry_eq]
  generalize (lg_sl ([.ref mo]) ++ List.replicate (5 - (lg_sl ([.ref mo])).length) Slot.unset).toArray = ls at hl ⊢
  have hl : lv_has ls 5 [(0, .ref mo)] := hl
  refine lv_aload_n hx hb dX4_best_2_0 rfl (lv_at hl 0 rfl) ?_
  refine lv_iconst (v := (nI 0)) hx hb dX4_best_2_1 (by decide) ?_
  refine xr_put hx hb hts in_X4 tyX4 tyX4_ok nmX4 hown hE hS (Or.inl (Or.inl (Or.inl rfl))) ((hM).1.1) rfl 0 (by decide) (hts _ q787) (fun _ h => h) rfl (ty := tyX4 0) (by decide) rfl rfl (Nat.le_of_ble_eq_true rfl) dX4_best_2_2 (fun H_1 L_2 hO_ hz_3 ho_4 hS => ?_)
  have hO_ : xO E mo 3 [.int (nI 0), .int (nI n), .ref aS, .int (nI m), .ref aT, .int sh, .ref aW, .ref aO] H_1 := hO_
  have hM := hM.put hd hO_ (fun q _ h => ho_4 q h)
  refine lv_iconst (v := (-1)) hx hb dX4_best_2_5 (by decide) ?_
  refine lv_istore_n (lv' := [(1, .int (-1)), (0, .ref mo)]) hx hb dX4_best_2_6 rfl hl (by decide) rfl (fun ls hl => ?_)
  refine lv_iconst (v := (-1)) hx hb dX4_best_2_7 (by decide) ?_
  refine lv_istore_n (lv' := [(2, .int (-1)), (1, .int (-1)), (0, .ref mo)]) hx hb dX4_best_2_8 rfl hl (by decide) rfl (fun ls hl => ?_)
  refine lv_iconst (v := (nI 0)) hx hb dX4_best_2_9 (by decide) ?_
  refine lv_istore_n (lv' := [(3, .int (nI 0)), (2, .int (-1)), (1, .int (-1)), (0, .ref mo)]) hx hb dX4_best_2_10 rfl hl (by decide) rfl (fun ls hl => ?_)
  have lp : ∀ (nn : Nat) (w : Nat) (o_ : Nat → Int32), (w ≤ 4) → (4 - w) < nn → ∀ (H : Heap) (locs : List Loc), (True ∧ xM E mo aS aT aW aO tr (nI 0) n so m ts sh ow o_ H) → va_S (fun q => xMF mo aS aT aW aO tr q ∨ sz ≤ q) s.heap H locs → ∀ (ls : Array Slot), lv_has ls 5 [(0, .ref mo), (1, .int (oi (bst (trd (tk ts so) n m) w))), (2, .int (lsI (trd (tk ts so) n m) (bst (trd (tk ts so) n m) w))), (3, .int (nI w))] → W P0 l e0 (headSpec (ws_ yX4_best_2 cX4_best_2 5 (some .int)) ({ frames := 8, cells := 8, slots := 24, locals := 320 } : Room)).room s m0 ([.ref mo] : List Value).toArray below meth c0 H locs (w * 2) (w * 6) (MQ below (xQ (fun q => xMF mo aS aT aW aO tr q ∨ sz ≤ q) (fun v H => v = .int (oi (bst (trd (tk ts so) n m) 4)) ∧ ∃ ot', xM E mo aS aT aW aO tr (nI 0) n so m ts sh ow ot' H)) ([.ref mo] : List Value).toArray s 8 24 (fun q => xMF mo aS aT aW aO tr q ∨ sz ≤ q)) (F0 m0 11 ls []) := by
    intro nn
    induction nn with
    | zero =>
      intro w o_ hw1 hnn
      exact absurd hnn (Nat.not_lt_zero _)
    | succ nn ih =>
      intro w o_ hw1 hnn H locs hM hS ls hl
      have hM := hM.2
      refine lv_iload_n hx hb dX4_best_2_11 rfl (lv_at hl 3 rfl) ?_
      refine lv_iconst (v := (nI 4)) hx hb dX4_best_2_12 (by decide) ?_
      refine xr_cge (tgt := 54) hx hb dX4_best_2_13 (by decide) (by omega) (by omega) (fun c1 => ?_) (fun c1 => ?_)
      · obtain rfl : 4 = w := by omega
        refine lv_iload_n hx hb dX4_best_2_54 rfl (lv_at hl 1 rfl) ?_
        refine W.widen (k := 8) (n := 24) (by omega) (by omega) ?_
        exact W.iret hx hb hr (fun t ht hW => ⟨⟨_, rfl, by rw [ht]; exact ⟨rfl, _, hM⟩⟩, hS.F ht⟩) hS.2.2 dX4_best_2_55
      · refine lv_aload_n hx hb dX4_best_2_16 rfl (lv_at hl 0 rfl) ?_
        refine lv_iload_n hx hb dX4_best_2_17 rfl (lv_at hl 3 rfl) ?_
        refine xr_mu (va_runV (As := [.int (nI w)]) (rest := []) ⟨hx, hb, hml, hown, hts⟩ (mt_tried l E mo aS aT aW aO tr n so m ts sh ow o_ H.size w c1 hn hm hd hso hts9) (cwV 1 hts (lw_V q968 q970 qs32 q44 q971) rfl rfl rfl (by decide +kernel) ⟨Nat.le_of_ble_eq_true rfl, Nat.le_of_ble_eq_true rfl⟩) ⟨xPre_blind, ((hM).1.1).recv hE rfl, fun U hU hW => xPre_at hE hS (fun q h => h.elim Or.inl (fun h => Or.inr (Nat.le_trans (by have := hS.1; omega) h))) (⟨rfl, hM⟩) hU hW⟩ rfl rfl hl.1 rfl (lv_room (Nat.le_of_ble_eq_true rfl)) dX4_best_2_18 ⟨(show w * 2 + 2 ≤ 8 by omega), (show w * 6 + 6 ≤ 24 by omega)⟩) hS (fun q h => h.elim Or.inl (fun h => Or.inr (Nat.le_trans (by have := hS.1; omega) h))) (fun q h => h.elim Or.inl (fun h => Or.inr (Nat.le_trans (by have := hS.1; omega) h))) (fun vv H_5 L_6 hP_ hz_7 hk_8 hS => ?_)
        obtain ⟨hv_, ot2, hM⟩ := hP_
        subst hv_
        refine lv_istore (lv' := [(4, .int (trd (tk ts so) n m w)), (0, .ref mo), (1, .int (oi (bst (trd (tk ts so) n m) w))), (2, .int (lsI (trd (tk ts so) n m) (bst (trd (tk ts so) n m) w))), (3, .int (nI w))]) hx hb dX4_best_2_21 hl (by decide) rfl (fun ls hl => ?_)
        refine lv_iload hx hb dX4_best_2_23 (lv_at hl 0 rfl) ?_
        refine lv_iconst (v := (-1)) hx hb dX4_best_2_25 (by decide) ?_
        refine W.widen (k := (w + 1) * 2) (n := (w + 1) * 6) (by omega) (by omega) ?_
        refine lv_icmp_eq (tgt := 48) hx hb dX4_best_2_26 (by decide) (fun c2 => ?_) (fun c2 => ?_)
        · refine lv_iinc (v := (nI (w + 1))) (lv' := [(3, .int (nI (w + 1))), (4, .int (trd (tk ts so) n m w)), (0, .ref mo), (1, .int (oi (bst (trd (tk ts so) n m) w))), (2, .int (lsI (trd (tk ts so) n m) (bst (trd (tk ts so) n m) w)))]) hx hb dX4_best_2_48 hl (k := 4) rfl (nI_add w 1) (by decide) rfl (fun ls hl => ?_)
          refine lv_goto (tgt := 11) hx hb dX4_best_2_51 (by decide) ?_
          exact ih (w + 1) ot2 (by omega) (by omega) _ _ (⟨trivial, hM⟩) hS ls (by rw [bst_m c2]; exact lv_sub hl [2, 3, 4, 0] rfl)
        · refine lv_iload_n hx hb dX4_best_2_29 rfl (lv_at hl 2 rfl) ?_
          refine lv_iconst (v := (-1)) hx hb dX4_best_2_30 (by decide) ?_
          rcases hb_ : bst (trd (tk ts so) n m) w with _ | b_
          · have hl : lv_has ls 5 [(4, .int (trd (tk ts so) n m w)), (0, .ref mo), (1, .int (-1)), (2, .int (-1)), (3, .int (nI w))] := by rw [hb_] at hl; exact hl
            refine W.eq (g2 := F0 m0 31 ls [.int (-1), .int (-1)]) rfl ?_
            refine lv_icmp_eq (tgt := 43) hx hb dX4_best_2_31 (by decide) (fun c3 => ?_) (fun c3 => absurd rfl c3)
            refine lv_iload_n hx hb dX4_best_2_43 rfl (lv_at hl 4 rfl) ?_
            refine lv_istore_n (lv' := [(1, .int (nI w)), (4, .int (trd (tk ts so) n m w)), (0, .ref mo), (2, .int (-1)), (3, .int (nI w))]) hx hb dX4_best_2_44 rfl hl (by decide) rfl (fun ls hl => ?_)
            refine lv_iload hx hb dX4_best_2_45 (lv_at hl 1 rfl) ?_
            refine lv_istore_n (lv' := [(2, .int (trd (tk ts so) n m w)), (1, .int (nI w)), (4, .int (trd (tk ts so) n m w)), (0, .ref mo), (3, .int (nI w))]) hx hb dX4_best_2_47 rfl hl (by decide) rfl (fun ls hl => ?_)
            refine lv_iinc (v := (nI (w + 1))) (lv' := [(3, .int (nI (w + 1))), (2, .int (trd (tk ts so) n m w)), (1, .int (nI w)), (4, .int (trd (tk ts so) n m w)), (0, .ref mo)]) hx hb dX4_best_2_48 hl (k := 4) rfl (nI_add w 1) (by decide) rfl (fun ls hl => ?_)
            refine lv_goto (tgt := 11) hx hb dX4_best_2_51 (by decide) ?_
            exact ih (w + 1) ot2 (by omega) (by omega) _ _ (⟨trivial, hM⟩) hS ls (by rw [bst_none c2 hb_]; exact lv_sub hl [4, 2, 1, 0] rfl)
          · have hl : lv_has ls 5 [(4, .int (trd (tk ts so) n m w)), (0, .ref mo), (1, .int (nI b_)), (2, .int ((trd (tk ts so) n m) b_)), (3, .int (nI w))] := by rw [hb_] at hl; exact hl
            refine W.eq (g2 := F0 m0 31 ls [.int (-1), .int (nI b_)]) rfl ?_
            have hbi := bst_in hb_
            refine lv_icmp_eq (tgt := 43) hx hb dX4_best_2_31 (by decide) (fun c3 => absurd c3 (oi_m1 (by omega))) (fun c3 => ?_)
            refine lv_iload hx hb dX4_best_2_34 (lv_at hl 0 rfl) ?_
            refine lv_iload_n hx hb dX4_best_2_36 rfl (lv_at hl 3 rfl) ?_
            refine lv_icmp_lt (tgt := 43) hx hb dX4_best_2_37 (by decide) (fun c4 => ?_) (fun c4 => ?_)
            · refine lv_iload_n hx hb dX4_best_2_43 rfl (lv_at hl 4 rfl) ?_
              refine lv_istore_n (lv' := [(1, .int (nI w)), (4, .int (trd (tk ts so) n m w)), (0, .ref mo), (2, .int ((trd (tk ts so) n m) b_)), (3, .int (nI w))]) hx hb dX4_best_2_44 rfl hl (by decide) rfl (fun ls hl => ?_)
              refine lv_iload hx hb dX4_best_2_45 (lv_at hl 1 rfl) ?_
              refine lv_istore_n (lv' := [(2, .int (trd (tk ts so) n m w)), (1, .int (nI w)), (4, .int (trd (tk ts so) n m w)), (0, .ref mo), (3, .int (nI w))]) hx hb dX4_best_2_47 rfl hl (by decide) rfl (fun ls hl => ?_)
              refine lv_iinc (v := (nI (w + 1))) (lv' := [(3, .int (nI (w + 1))), (2, .int (trd (tk ts so) n m w)), (1, .int (nI w)), (4, .int (trd (tk ts so) n m w)), (0, .ref mo)]) hx hb dX4_best_2_48 hl (k := 4) rfl (nI_add w 1) (by decide) rfl (fun ls hl => ?_)
              refine lv_goto (tgt := 11) hx hb dX4_best_2_51 (by decide) ?_
              exact ih (w + 1) ot2 (by omega) (by omega) _ _ (⟨trivial, hM⟩) hS ls (by rw [bst_lt c2 hb_ c4]; exact lv_sub hl [4, 2, 1, 0] rfl)
            · refine lv_goto (tgt := 48) hx hb dX4_best_2_40 (by decide) ?_
              refine lv_iinc (v := (nI (w + 1))) (lv' := [(3, .int (nI (w + 1))), (4, .int (trd (tk ts so) n m w)), (0, .ref mo), (1, .int (nI b_)), (2, .int ((trd (tk ts so) n m) b_))]) hx hb dX4_best_2_48 hl (k := 4) rfl (nI_add w 1) (by decide) rfl (fun ls hl => ?_)
              refine lv_goto (tgt := 11) hx hb dX4_best_2_51 (by decide) ?_
              exact ih (w + 1) ot2 (by omega) (by omega) _ _ (⟨trivial, hM⟩) hS ls (by rw [bst_ge c2 hb_ c4]; exact lv_sub hl [2, 3, 4, 0] rfl)
  refine W.widen (k := 0 * 2) (n := 0 * 6) (by omega) (by omega) ?_
  exact lp (4 + 1) 0 ot (by omega) (by omega) _ _ (⟨trivial, hM⟩) hS ls (lv_sub hl [3, 2, 1, 0] rfl)

set_option maxHeartbeats 4000000 in
set_option maxRecDepth 100000 in
theorem mt_change (l : Launch) (E : xG) (mo aS aT aW aO : Nat) (tr : Nat → Nat) (th : Int32) (n : Nat) (so : Nat → Nat) (m : Nat) (ts : Nat → Nat → Nat) (sh : Int32) (ow ot : Nat → Int32) (sz : Nat)  (hn : n ≤ 40) (hm : m ≤ 5) (hd : xMd mo aS aT aW aO tr) (hso : ∀ k, so k < 5) (hts9 : ∀ e k, ts e k ≤ 9) : Met l yX4_change (ws_ yX4_change cX4_change 3 (some .int)) ({ frames := 7, cells := 0, slots := 0, locals := 280 } : Room) (xPre E (fun q => xMF mo aS aT aW aO tr q ∨ sz ≤ q) [.ref mo] (fun H => H.size = sz ∧ xM E mo aS aT aW aO tr th n so m ts sh ow ot H)) (xQ (fun q => xMF mo aS aT aW aO tr q ∨ sz ≤ q) (fun v H => v = .int (chg (tk ts so) ow n m) ∧ xM E mo aS aT aW aO tr (nI 0) n so m ts sh ow ot H)) 0 0 (fun q => xMF mo aS aT aW aO tr q ∨ sz ≤ q) := by
  refine Met.ofW (cc := cX4_change) (maxL := 3) (ret := (some .int)) (by decide) rfl ?_
  intro P0 e0 s m0 args below meth c0 s₁ B hml hv
  obtain ⟨rfl, hE, hsz, hM⟩ := hv
  have hx := B.exec
  have hb := B.bytes
  have hr := B.returns
  have hts := atoms_spec (ws := ws_ yX4_change cX4_change 3 (some .int)) B.pre
  have hts : ∀ w ∈ lw_all, w.before _ s = true := fun w h => hts w (List.mem_cons_of_mem _ h)
  have hown : s.vm.findClass RX4 = some m0.cls := findClass_of_methodNamed B.named
  have hlocks := B.notSynchronized
  have hS : va_S (fun q => xMF mo aS aT aW aO tr q ∨ sz ≤ q) s.heap s.heap [] := va_S.rf
  have hl := lv_entry ([.ref mo]) (n := 3) (Nat.le_of_ble_eq_true rfl)
  rw [lg_entry_eq]
  generalize (lg_sl ([.ref mo]) ++ List.replicate (3 - (lg_sl ([.ref mo])).length) Slot.unset).toArray = ls at hl ⊢
  have hl : lv_has ls 3 [(0, .ref mo)] := hl
  refine lv_aload_n hx hb dX4_change_0 rfl (lv_at hl 0 rfl) ?_
  refine lv_iconst (v := (nI 0)) hx hb dX4_change_1 (by decide) ?_
  refine xr_put hx hb hts in_X4 tyX4 tyX4_ok nmX4 hown hE hS (Or.inl (Or.inl (Or.inl rfl))) ((hM).1.1) rfl 0 (by decide) (hts _ q787) (fun _ h => h) rfl (ty := tyX4 0) (by decide) rfl rfl (Nat.le_of_ble_eq_true rfl) dX4_change_2 (fun H_1 L_2 hO_ hz_3 ho_4 hS => ?_)
  have hO_ : xO E mo 3 [.int (nI 0), .int (nI n), .ref aS, .int (nI m), .ref aT, .int sh, .ref aW, .ref aO] H_1 := hO_
  have hM := hM.put hd hO_ (fun q _ h => ho_4 q h)
  refine lv_iconst (v := (nI 0)) hx hb dX4_change_5 (by decide) ?_
  refine lv_istore_n (lv' := [(1, .int (nI 0)), (0, .ref mo)]) hx hb dX4_change_6 rfl hl (by decide) rfl (fun ls hl => ?_)
  have lp : ∀ (nn : Nat) (a : Nat), (fd (chQ (tk ts so) ow n m) 0 m = fd (chQ (tk ts so) ow n m) a (m - a)) → (a ≤ m) → (m - a) < nn → ∀ (ls : Array Slot), lv_has ls 3 [(0, .ref mo), (1, .int (nI a))] → W P0 l e0 (headSpec (ws_ yX4_change cX4_change 3 (some .int)) ({ frames := 7, cells := 0, slots := 0, locals := 280 } : Room)).room s m0 ([.ref mo] : List Value).toArray below meth c0 H_1 L_2 0 0 (MQ below (xQ (fun q => xMF mo aS aT aW aO tr q ∨ sz ≤ q) (fun v H => v = .int (chg (tk ts so) ow n m) ∧ xM E mo aS aT aW aO tr (nI 0) n so m ts sh ow ot H)) ([.ref mo] : List Value).toArray s 0 0 (fun q => xMF mo aS aT aW aO tr q ∨ sz ≤ q)) (F0 m0 7 ls []) := by
    intro nn
    induction nn with
    | zero =>
      intro a hA1 ha2 hnn
      exact absurd hnn (Nat.not_lt_zero _)
    | succ nn ih =>
      intro a hA1 ha2 hnn ls hl
      refine lv_iload_n hx hb dX4_change_7 rfl (lv_at hl 1 rfl) ?_
      refine lv_aload_n hx hb dX4_change_8 rfl (lv_at hl 0 rfl) ?_
      refine xr_get hx hb hts in_X4 hown hE ((hM).1.1) rfl 3 (by decide) (hts _ q790) (fun _ h => h) rfl dX4_change_9 ?_
      refine xr_cge (tgt := 55) hx hb dX4_change_12 (by decide) (by omega) (by omega) (fun c1 => ?_) (fun c1 => ?_)
      · refine lv_iconst (v := (-1)) hx hb dX4_change_55 (by decide) ?_
        refine xr_ti (x := (-1)) (y := (chg (tk ts so) ow n m)) (by unfold chg chA; rw [hA1, fd_ge _ c1, if_neg (by omega)]) ?_
        exact W.iret hx hb hr (fun t ht hW => ⟨⟨_, rfl, by rw [ht]; exact ⟨rfl, hM⟩⟩, hS.F ht⟩) hS.2.2 dX4_change_56
      · refine lv_iload_n hx hb dX4_change_15 rfl (lv_at hl 1 rfl) ?_
        refine lv_iconst (v := (nI 1)) hx hb dX4_change_16 (by decide) ?_
        refine xr_iadd hx hb dX4_change_17 ?_
        refine lv_istore_n (lv' := [(2, .int (nI (a + 1))), (0, .ref mo), (1, .int (nI a))]) hx hb dX4_change_18 rfl hl (by decide) rfl (fun ls hl => ?_)
        have ihA := ih
        have lpB : ∀ (nn : Nat) (b : Nat), (a + 1 ≤ b) → (b ≤ m) → (fd (chP (tk ts so) ow n a) (a + 1) (m - (a + 1)) = fd (chP (tk ts so) ow n a) b (m - b)) → (m - b) < nn → ∀ (ls : Array Slot), lv_has ls 3 [(0, .ref mo), (1, .int (nI a)), (2, .int (nI b))] → W P0 l e0 (headSpec (ws_ yX4_change cX4_change 3 (some .int)) ({ frames := 7, cells := 0, slots := 0, locals := 280 } : Room)).room s m0 ([.ref mo] : List Value).toArray below meth c0 H_1 L_2 0 0 (MQ below (xQ (fun q => xMF mo aS aT aW aO tr q ∨ sz ≤ q) (fun v H => v = .int (chg (tk ts so) ow n m) ∧ xM E mo aS aT aW aO tr (nI 0) n so m ts sh ow ot H)) ([.ref mo] : List Value).toArray s 0 0 (fun q => xMF mo aS aT aW aO tr q ∨ sz ≤ q)) (F0 m0 19 ls []) := by
          intro nn
          induction nn with
          | zero =>
            intro b hb0 hb2 hB1 hnn
            exact absurd hnn (Nat.not_lt_zero _)
          | succ nn ih =>
            intro b hb0 hb2 hB1 hnn ls hl
            refine lv_iload_n hx hb dX4_change_19 rfl (lv_at hl 2 rfl) ?_
            refine lv_aload_n hx hb dX4_change_20 rfl (lv_at hl 0 rfl) ?_
            refine xr_get hx hb hts in_X4 hown hE ((hM).1.1) rfl 3 (by decide) (hts _ q790) (fun _ h => h) rfl dX4_change_21 ?_
            refine xr_cge (tgt := 49) hx hb dX4_change_24 (by decide) (by omega) (by omega) (fun c2 => ?_) (fun c2 => ?_)
            · have hq : chQ (tk ts so) ow n m a = false := decide_eq_false (by unfold chB; rw [hB1, fd_ge _ c2]; omega)
              refine lv_iinc (v := (nI (a + 1))) (lv' := [(1, .int (nI (a + 1))), (0, .ref mo), (2, .int (nI b))]) hx hb dX4_change_49 hl (k := 1) rfl (nI_add a 1) (by decide) rfl (fun ls hl => ?_)
              refine lv_goto (tgt := 7) hx hb dX4_change_52 (by decide) ?_
              exact ihA (a + 1) (by rw [hA1]; exact fd_s hq c1) (by omega) (by omega) ls (lv_sub hl [1, 0] rfl)
            · refine lv_aload_n hx hb dX4_change_27 rfl (lv_at hl 0 rfl) ?_
              refine lv_iload_n hx hb dX4_change_28 rfl (lv_at hl 1 rfl) ?_
              refine lv_iload_n hx hb dX4_change_29 rfl (lv_at hl 2 rfl) ?_
              refine xr_ro (va_runV (As := [.int (nI a), .int (nI b)]) (rest := []) ⟨hx, hb, hml, hown, hts⟩ (mt_isBetter l E (fun q => xMF mo aS aT aW aO tr q ∨ sz ≤ q) mo aS aT aW aO tr (nI 0) n so m ts sh ow a b (by omega) (by omega) hn hso hts9) (cwV 2 hts (lw_V q916 q918 qs26 q44 q919) rfl rfl rfl (by decide +kernel) ⟨Nat.le_of_ble_eq_true rfl, Nat.le_of_ble_eq_true rfl⟩) ⟨xPre_blind, ((hM).1.1).recv hE rfl, fun U hU hW => xPre_at hE hS (fun _ h => h) (⟨hM.1, hM.2.1⟩) hU hW⟩ rfl rfl hl.1 rfl (lv_room (Nat.le_of_ble_eq_true rfl)) dX4_change_30 ⟨(show 0 + 0 ≤ 0 by omega), (show 0 + 0 ≤ 0 by omega)⟩) ?_
              have qb : btrN (tk ts so) ow n a b ≤ 1 := by unfold btrN; split <;> omega
              refine xr_zeq (tgt := 43) hx hb dX4_change_33 (by decide) (by omega) (fun c3 => ?_) (fun c3 => ?_)
              · refine lv_iinc (v := (nI (b + 1))) (lv' := [(2, .int (nI (b + 1))), (0, .ref mo), (1, .int (nI a))]) hx hb dX4_change_43 hl (k := 2) rfl (nI_add b 1) (by decide) rfl (fun ls hl => ?_)
                refine lv_goto (tgt := 19) hx hb dX4_change_46 (by decide) ?_
                exact ih (b + 1) (by omega) (by omega) (by rw [hB1]; exact fd_s (decide_eq_false (by omega)) c2) (by omega) ls (lv_sub hl [1, 2, 0] rfl)
              · have hb1 : chB (tk ts so) ow n m a = b := by unfold chB; rw [hB1]; exact fd_t (decide_eq_true (by omega))
                have ha1 : chA (tk ts so) ow n m = a := by unfold chA; rw [hA1]; exact fd_t (decide_eq_true (by rw [hb1]; exact c2))
                refine lv_bipush (v := (nI 10)) hx hb dX4_change_36 (by decide) ?_
                refine lv_iload_n hx hb dX4_change_38 rfl (lv_at hl 1 rfl) ?_
                refine xr_imul hx hb dX4_change_39 ?_
                refine lv_iload_n hx hb dX4_change_40 rfl (lv_at hl 2 rfl) ?_
                refine xr_iadd hx hb dX4_change_41 ?_
                refine xr_ti (x := (nI ((10 * a) + b))) (y := (chg (tk ts so) ow n m)) (by unfold chg; rw [ha1, hb1, if_pos c1]) ?_
                exact W.iret hx hb hr (fun t ht hW => ⟨⟨_, rfl, by rw [ht]; exact ⟨rfl, hM⟩⟩, hS.F ht⟩) hS.2.2 dX4_change_42
        exact lpB (m + 1) (a + 1) (by omega) (by omega) rfl (by omega) ls (lv_sub hl [1, 2, 0] rfl)
  exact lp (m + 1) 0 rfl (by omega) (by omega) ls (lv_sub hl [1, 0] rfl)

set_option maxHeartbeats 4000000 in
set_option maxRecDepth 100000 in
theorem mt_mean (l : Launch) (E : xG) (mo aS aT aW aO : Nat) (tr : Nat → Nat) (th : Int32) (n : Nat) (so : Nat → Nat) (m : Nat) (ts : Nat → Nat → Nat) (sh : Int32) (ow ot : Nat → Int32) (sz : Nat)  (hn : n ≤ 40) (hm : m ≤ 5) (hd : xMd mo aS aT aW aO tr) (hso : ∀ k, so k < 5) (hts9 : ∀ e k, ts e k ≤ 9) : Met l yX4_mean (ws_ yX4_mean cX4_mean 3 (some .double)) ({ frames := 7, cells := 0, slots := 0, locals := 280 } : Room) (xPre E (fun q => xMF mo aS aT aW aO tr q ∨ sz ≤ q) [.ref mo] (fun H => H.size = sz ∧ xM E mo aS aT aW aO tr th n so m ts sh ow ot H)) (xQ (fun q => xMF mo aS aT aW aO tr q ∨ sz ≤ q) (fun v H => v = .double (mea (sm (fun z => wo (tk ts so z) ow (nI z) n) m) m) ∧ xM E mo aS aT aW aO tr (nI 0) n so m ts sh ow ot H)) 0 0 (fun q => xMF mo aS aT aW aO tr q ∨ sz ≤ q) := by
  refine Met.ofW (cc := cX4_mean) (maxL := 3) (ret := (some .double)) (by decide) rfl ?_
  intro P0 e0 s m0 args below meth c0 s₁ B hml hv
  obtain ⟨rfl, hE, hsz, hM⟩ := hv
  have hx := B.exec
  have hb := B.bytes
  have hr := B.returns
  have hts := atoms_spec (ws := ws_ yX4_mean cX4_mean 3 (some .double)) B.pre
  have hts : ∀ w ∈ lw_all, w.before _ s = true := fun w h => hts w (List.mem_cons_of_mem _ h)
  have hown : s.vm.findClass RX4 = some m0.cls := findClass_of_methodNamed B.named
  have hlocks := B.notSynchronized
  have hS : va_S (fun q => xMF mo aS aT aW aO tr q ∨ sz ≤ q) s.heap s.heap [] := va_S.rf
  have hl := lv_entry ([.ref mo]) (n := 3) (Nat.le_of_ble_eq_true rfl)
  rw [lg_entry_eq]
  generalize (lg_sl ([.ref mo]) ++ List.replicate (3 - (lg_sl ([.ref mo])).length) Slot.unset).toArray = ls at hl ⊢
  have hl : lv_has ls 3 [(0, .ref mo)] := hl
  refine lv_aload_n hx hb dX4_mean_0 rfl (lv_at hl 0 rfl) ?_
  refine lv_iconst (v := (nI 0)) hx hb dX4_mean_1 (by decide) ?_
  refine xr_put hx hb hts in_X4 tyX4 tyX4_ok nmX4 hown hE hS (Or.inl (Or.inl (Or.inl rfl))) ((hM).1.1) rfl 0 (by decide) (hts _ q787) (fun _ h => h) rfl (ty := tyX4 0) (by decide) rfl rfl (Nat.le_of_ble_eq_true rfl) dX4_mean_2 (fun H_1 L_2 hO_ hz_3 ho_4 hS => ?_)
  have hO_ : xO E mo 3 [.int (nI 0), .int (nI n), .ref aS, .int (nI m), .ref aT, .int sh, .ref aW, .ref aO] H_1 := hO_
  have hM := hM.put hd hO_ (fun q _ h => ho_4 q h)
  refine lv_iconst (v := (nI 0)) hx hb dX4_mean_5 (by decide) ?_
  refine lv_istore_n (lv' := [(1, .int (nI 0)), (0, .ref mo)]) hx hb dX4_mean_6 rfl hl (by decide) rfl (fun ls hl => ?_)
  refine lv_iconst (v := (nI 0)) hx hb dX4_mean_7 (by decide) ?_
  refine lv_istore_n (lv' := [(2, .int (nI 0)), (1, .int (nI 0)), (0, .ref mo)]) hx hb dX4_mean_8 rfl hl (by decide) rfl (fun ls hl => ?_)
  have lp : ∀ (nn : Nat) (e : Nat), (e ≤ m) → (m - e) < nn → ∀ (ls : Array Slot), lv_has ls 3 [(0, .ref mo), (1, .int (nI (sm (fun z => wo (tk ts so z) ow (nI z) n) e))), (2, .int (nI e))] → W P0 l e0 (headSpec (ws_ yX4_mean cX4_mean 3 (some .double)) ({ frames := 7, cells := 0, slots := 0, locals := 280 } : Room)).room s m0 ([.ref mo] : List Value).toArray below meth c0 H_1 L_2 0 0 (MQ below (xQ (fun q => xMF mo aS aT aW aO tr q ∨ sz ≤ q) (fun v H => v = .double (mea (sm (fun z => wo (tk ts so z) ow (nI z) n) m) m) ∧ xM E mo aS aT aW aO tr (nI 0) n so m ts sh ow ot H)) ([.ref mo] : List Value).toArray s 0 0 (fun q => xMF mo aS aT aW aO tr q ∨ sz ≤ q)) (F0 m0 9 ls []) := by
    intro nn
    induction nn with
    | zero =>
      intro e he2 hnn
      exact absurd hnn (Nat.not_lt_zero _)
    | succ nn ih =>
      intro e he2 hnn ls hl
      refine lv_iload_n hx hb dX4_mean_9 rfl (lv_at hl 2 rfl) ?_
      refine lv_aload_n hx hb dX4_mean_10 rfl (lv_at hl 0 rfl) ?_
      refine xr_get hx hb hts in_X4 hown hE ((hM).1.1) rfl 3 (by decide) (hts _ q790) (fun _ h => h) rfl dX4_mean_11 ?_
      refine xr_cge (tgt := 36) hx hb dX4_mean_14 (by decide) (by omega) (by omega) (fun c_5 => ?_) (fun c_5 => ?_)
      · obtain rfl : m = e := by omega
        have q1 : sm (fun z => wo (tk ts so z) ow (nI z) n) m ≤ m * 360 := sm_le (fun z => wo_9 (fun k => hts9 z (so k)) hn) m
        refine lv_aload_n hx hb dX4_mean_36 rfl (lv_at hl 0 rfl) ?_
        refine xr_get hx hb hts in_X4 hown hE ((hM).1.1) rfl 3 (by decide) (hts _ q790) (fun _ h => h) rfl dX4_mean_37 ?_
        refine xr_zne (tgt := 47) hx hb dX4_mean_40 (by decide) (by omega) (fun c2 => ?_) (fun c2 => ?_)
        · refine lv_iload_n hx hb dX4_mean_47 rfl (lv_at hl 1 rfl) ?_
          refine lv_i2d hx hb dX4_mean_48 ?_
          refine lv_aload_n hx hb dX4_mean_49 rfl (lv_at hl 0 rfl) ?_
          refine xr_get hx hb hts in_X4 hown hE ((hM).1.1) rfl 3 (by decide) (hts _ q790) (fun _ h => h) rfl dX4_mean_50 ?_
          refine lv_i2d hx hb dX4_mean_53 ?_
          refine lv_ddiv hx hb dX4_mean_54 (mea_n (by omega) c2 hm) ?_
          exact W.dret hx hb hr (fun t ht hW => ⟨⟨_, rfl, by rw [ht]; exact ⟨by unfold mea; rw [if_neg (by omega)], hM⟩⟩, hS.F ht⟩) hS.2.2 dX4_mean_55
        · refine lv_dconst0 hx hb dX4_mean_43 ?_
          refine lv_goto (tgt := 55) hx hb dX4_mean_44 (by decide) ?_
          exact W.dret hx hb hr (fun t ht hW => ⟨⟨_, rfl, by rw [ht]; exact ⟨by unfold mea; rw [if_pos c2], hM⟩⟩, hS.F ht⟩) hS.2.2 dX4_mean_55
      · refine lv_iload_n hx hb dX4_mean_17 rfl (lv_at hl 1 rfl) ?_
        refine lv_aload_n hx hb dX4_mean_18 rfl (lv_at hl 0 rfl) ?_
        refine lv_aload_n hx hb dX4_mean_19 rfl (lv_at hl 0 rfl) ?_
        refine xr_get hx hb hts in_X4 hown hE ((hM).1.1) rfl 6 (by decide) (hts _ q793) (fun _ h => h) rfl dX4_mean_20 ?_
        refine lv_iload_n hx hb dX4_mean_23 rfl (lv_at hl 2 rfl) ?_
        refine lv_iload_n hx hb dX4_mean_24 rfl (lv_at hl 2 rfl) ?_
        refine xr_ro (va_runV (As := [.ref aW, .int (nI e), .int (nI e)]) (rest := [.int (nI (sm (fun z => wo (tk ts so z) ow (nI z) n) e))]) ⟨hx, hb, hml, hown, hts⟩ (mt_worth l E (fun q => xMF mo aS aT aW aO tr q ∨ sz ≤ q) mo aS aT aW aO tr (nI 0) n so m ts sh aW ow e (nI e) (by omega) hn hso) (cwV 3 hts (lw_V q908 q910 qs25 q44 q911) rfl rfl rfl (by decide +kernel) ⟨Nat.le_of_ble_eq_true rfl, Nat.le_of_ble_eq_true rfl⟩) ⟨xPre_blind, ((hM).1.1).recv hE rfl, fun U hU hW => xPre_at hE hS (fun _ h => h) (⟨hM.1, hM.2.1⟩) hU hW⟩ rfl rfl hl.1 rfl (lv_room (Nat.le_of_ble_eq_true rfl)) dX4_mean_25 ⟨(show 0 + 0 ≤ 0 by omega), (show 0 + 0 ≤ 0 by omega)⟩) ?_
        refine xr_iadd hx hb dX4_mean_28 ?_
        refine xr_ti (x := (nI ((sm (fun z => wo (tk ts so z) ow (nI z) n) e) + (wo (tk ts so e) ow (nI e) n)))) (y := (nI (sm (fun z => wo (tk ts so z) ow (nI z) n) (e + 1)))) (by rw [sm_s]) ?_
        refine lv_istore_n (lv' := [(1, .int (nI (sm (fun z => wo (tk ts so z) ow (nI z) n) (e + 1)))), (0, .ref mo), (2, .int (nI e))]) hx hb dX4_mean_29 rfl hl (by decide) rfl (fun ls hl => ?_)
        refine lv_iinc (v := (nI (e + 1))) (lv' := [(2, .int (nI (e + 1))), (1, .int (nI (sm (fun z => wo (tk ts so z) ow (nI z) n) (e + 1)))), (0, .ref mo)]) hx hb dX4_mean_30 hl (k := 2) rfl (nI_add e 1) (by decide) rfl (fun ls hl => ?_)
        refine lv_goto (tgt := 9) hx hb dX4_mean_33 (by decide) ?_
        exact ih (e + 1) (by omega) (by omega) ls (lv_sub hl [2, 1, 0] rfl)
  exact lp (m + 1) 0 (by omega) (by omega) ls (lv_sub hl [2, 1, 0] rfl)

set_option maxHeartbeats 4000000 in
set_option maxRecDepth 100000 in
theorem mt_digest (l : Launch) (E : xG) (mo aS aT aW aO : Nat) (tr : Nat → Nat) (th : Int32) (n : Nat) (so : Nat → Nat) (m : Nat) (ts : Nat → Nat → Nat) (sh : Int32) (ow ot : Nat → Int32) (sz : Nat)  (hn : n ≤ 40) (hm : m ≤ 5) (hd : xMd mo aS aT aW aO tr) (hso : ∀ k, so k < 5) (hts9 : ∀ e k, ts e k ≤ 9) : Met l yX4_digest (ws_ yX4_digest cX4_digest 8 (some .long)) ({ frames := 7, cells := 72, slots := 439, locals := 280 } : Room) (xPre E (fun q => xMF mo aS aT aW aO tr q ∨ sz ≤ q) [.ref mo] (fun H => H.size = sz ∧ xM E mo aS aT aW aO tr th n so m ts sh ow ot H)) (xQ (fun q => xMF mo aS aT aW aO tr q ∨ sz ≤ q) (fun v H => v = .long (dgs (tk ts so) ts so ow n m sh) ∧ xM E mo aS aT aW aO tr (nI 0) n so m ts sh ow ot H)) 72 439 (fun q => xMF mo aS aT aW aO tr q ∨ sz ≤ q) := by
  refine Met.ofW (cc := cX4_digest) (maxL := 8) (ret := (some .long)) (by decide) rfl ?_
  intro P0 e0 s m0 args below meth c0 s₁ B hml hv
  obtain ⟨rfl, hE, hsz, hM⟩ := hv
  have hx := B.exec
  have hb := B.bytes
  have hr := B.returns
  have hts := atoms_spec (ws := ws_ yX4_digest cX4_digest 8 (some .long)) B.pre
  have hts : ∀ w ∈ lw_all, w.before _ s = true := fun w h => hts w (List.mem_cons_of_mem _ h)
  have hown : s.vm.findClass RX4 = some m0.cls := findClass_of_methodNamed B.named
  have hlocks := B.notSynchronized
  have hS : va_S (fun q => xMF mo aS aT aW aO tr q ∨ sz ≤ q) s.heap s.heap [] := va_S.rf
  have hl := lv_entry ([.ref mo]) (n := 8) (Nat.le_of_ble_eq_true rfl)
  rw [lg_entry_eq]
  generalize (lg_sl ([.ref mo]) ++ List.replicate (8 - (lg_sl ([.ref mo])).length) Slot.unset).toArray = ls at hl ⊢
  have hl : lv_has ls 8 [(0, .ref mo)] := hl
  refine lv_aload_n hx hb dX4_digest_0 rfl (lv_at hl 0 rfl) ?_
  refine lv_iconst (v := (nI 0)) hx hb dX4_digest_1 (by decide) ?_
  refine xr_put hx hb hts in_X4 tyX4 tyX4_ok nmX4 hown hE hS (Or.inl (Or.inl (Or.inl rfl))) ((hM).1.1) rfl 0 (by decide) (hts _ q787) (fun _ h => h) rfl (ty := tyX4 0) (by decide) rfl rfl (Nat.le_of_ble_eq_true rfl) dX4_digest_2 (fun H_1 L_2 hO_ hz_3 ho_4 hS => ?_)
  have hO_ : xO E mo 3 [.int (nI 0), .int (nI n), .ref aS, .int (nI m), .ref aT, .int sh, .ref aW, .ref aO] H_1 := hO_
  have hM := hM.put hd hO_ (fun q _ h => ho_4 q h)
  refine lv_ldc2 hx hb hown (hts _ q988) dX4_digest_5 ?_
  refine lv_lstore_n (lv' := [(1, .long 1439), (0, .ref mo)]) hx hb dX4_digest_8 rfl hl (by decide) rfl (fun ls hl => ?_)
  refine lv_iconst (v := (nI 0)) hx hb dX4_digest_9 (by decide) ?_
  refine lv_istore_n (lv' := [(3, .int (nI 0)), (1, .long 1439), (0, .ref mo)]) hx hb dX4_digest_10 rfl hl (by decide) rfl (fun ls hl => ?_)
  have lp1 : ∀ (nn : Nat) (w : Nat), (w ≤ 7) → (7 - w) < nn → ∀ (H : Heap) (locs : List Loc), (True ∧ xM E mo aS aT aW aO tr (nI 0) n so m ts sh ow ot H) → va_S (fun q => xMF mo aS aT aW aO tr q ∨ sz ≤ q) s.heap H locs → ∀ (ls : Array Slot), lv_has ls 8 [(0, .ref mo), (1, .long (dC (tk ts so) ow n m sh w)), (3, .int (nI w))] → W P0 l e0 (headSpec (ws_ yX4_digest cX4_digest 8 (some .long)) ({ frames := 7, cells := 72, slots := 439, locals := 280 } : Room)).room s m0 ([.ref mo] : List Value).toArray below meth c0 H locs (w * 6) (w * 37) (MQ below (xQ (fun q => xMF mo aS aT aW aO tr q ∨ sz ≤ q) (fun v H => v = .long (dgs (tk ts so) ts so ow n m sh) ∧ xM E mo aS aT aW aO tr (nI 0) n so m ts sh ow ot H)) ([.ref mo] : List Value).toArray s 72 439 (fun q => xMF mo aS aT aW aO tr q ∨ sz ≤ q)) (F0 m0 11 ls []) := by
    intro nn
    induction nn with
    | zero =>
      intro w hw2 hnn
      exact absurd hnn (Nat.not_lt_zero _)
    | succ nn ih =>
      intro w hw2 hnn H locs hM hS ls hl
      have hM := hM.2
      refine lv_iload_n hx hb dX4_digest_11 rfl (lv_at hl 2 rfl) ?_
      refine lv_bipush (v := (nI 6)) hx hb dX4_digest_12 (by decide) ?_
      refine xr_cgt (tgt := 36) hx hb dX4_digest_14 (by decide) (by omega) (by omega) (fun c_5 => ?_) (fun c_5 => ?_)
      · obtain rfl : 7 = w := by omega
        refine W.widen (k := 42) (n := 259) (by omega) (by omega) ?_
        refine lv_iconst (v := (nI 0)) hx hb dX4_digest_36 (by decide) ?_
        refine lv_istore_n (lv' := [(3, .int (nI 0)), (0, .ref mo), (1, .long (dC (tk ts so) ow n m sh 7))]) hx hb dX4_digest_37 rfl hl (by decide) rfl (fun ls hl => ?_)
        have lp2 : ∀ (nn : Nat) (k : Nat), (k ≤ n) → (n - k) < nn → ∀ (ls : Array Slot), lv_has ls 8 [(0, .ref mo), (1, .long (dS so ow (dC (tk ts so) ow n m sh 7) k)), (3, .int (nI k))] → W P0 l e0 (headSpec (ws_ yX4_digest cX4_digest 8 (some .long)) ({ frames := 7, cells := 72, slots := 439, locals := 280 } : Room)).room s m0 ([.ref mo] : List Value).toArray below meth c0 H locs 42 259 (MQ below (xQ (fun q => xMF mo aS aT aW aO tr q ∨ sz ≤ q) (fun v H => v = .long (dgs (tk ts so) ts so ow n m sh) ∧ xM E mo aS aT aW aO tr (nI 0) n so m ts sh ow ot H)) ([.ref mo] : List Value).toArray s 72 439 (fun q => xMF mo aS aT aW aO tr q ∨ sz ≤ q)) (F0 m0 38 ls []) := by
          intro nn
          induction nn with
          | zero =>
            intro k hk2 hnn
            exact absurd hnn (Nat.not_lt_zero _)
          | succ nn ih =>
            intro k hk2 hnn ls hl
            refine lv_iload_n hx hb dX4_digest_38 rfl (lv_at hl 2 rfl) ?_
            refine lv_aload_n hx hb dX4_digest_39 rfl (lv_at hl 0 rfl) ?_
            refine xr_get hx hb hts in_X4 hown hE ((hM).1.1) rfl 1 (by decide) (hts _ q788) (fun _ h => h) rfl dX4_digest_40 ?_
            refine xr_cge (tgt := 78) hx hb dX4_digest_43 (by decide) (by omega) (by omega) (fun c_6 => ?_) (fun c_6 => ?_)
            · obtain rfl : n = k := by omega
              refine lv_iconst (v := (nI 0)) hx hb dX4_digest_78 (by decide) ?_
              refine lv_istore_n (lv' := [(3, .int (nI 0)), (0, .ref mo), (1, .long (dS so ow (dC (tk ts so) ow n m sh 7) n))]) hx hb dX4_digest_79 rfl hl (by decide) rfl (fun ls hl => ?_)
              have lp3 : ∀ (nn : Nat) (e : Nat), (e ≤ m) → (m - e) < nn → ∀ (H : Heap) (locs : List Loc), (True ∧ xM E mo aS aT aW aO tr (nI 0) n so m ts sh ow ot H) → va_S (fun q => xMF mo aS aT aW aO tr q ∨ sz ≤ q) s.heap H locs → ∀ (ls : Array Slot), lv_has ls 8 [(0, .ref mo), (1, .long (dE (tk ts so) ts ow n m (dS so ow (dC (tk ts so) ow n m sh 7) n) e)), (3, .int (nI e))] → W P0 l e0 (headSpec (ws_ yX4_digest cX4_digest 8 (some .long)) ({ frames := 7, cells := 72, slots := 439, locals := 280 } : Room)).room s m0 ([.ref mo] : List Value).toArray below meth c0 H locs (42 + e * 6) (259 + e * 36) (MQ below (xQ (fun q => xMF mo aS aT aW aO tr q ∨ sz ≤ q) (fun v H => v = .long (dgs (tk ts so) ts so ow n m sh) ∧ xM E mo aS aT aW aO tr (nI 0) n so m ts sh ow ot H)) ([.ref mo] : List Value).toArray s 72 439 (fun q => xMF mo aS aT aW aO tr q ∨ sz ≤ q)) (F0 m0 80 ls []) := by
                intro nn
                induction nn with
                | zero =>
                  intro e he2 hnn
                  exact absurd hnn (Nat.not_lt_zero _)
                | succ nn ih =>
                  intro e he2 hnn H locs hM hS ls hl
                  have hM := hM.2
                  refine lv_iload_n hx hb dX4_digest_80 rfl (lv_at hl 2 rfl) ?_
                  refine lv_aload_n hx hb dX4_digest_81 rfl (lv_at hl 0 rfl) ?_
                  refine xr_get hx hb hts in_X4 hown hE ((hM).1.1) rfl 3 (by decide) (hts _ q790) (fun _ h => h) rfl dX4_digest_82 ?_
                  refine xr_cge (tgt := 207) hx hb dX4_digest_85 (by decide) (by omega) (by omega) (fun c_7 => ?_) (fun c_7 => ?_)
                  · obtain rfl : m = e := by omega
                    refine lv_lload_n hx hb dX4_digest_207 rfl (lv_at hl 1 rfl) ?_
                    refine W.widen (k := 72) (n := 439) (by omega) (by omega) ?_
                    exact W.lret hx hb hr (fun t ht hW => ⟨⟨_, rfl, by rw [ht]; exact ⟨rfl, hM⟩⟩, hS.F ht⟩) hS.2.2 dX4_digest_208
                  · refine lv_aload_n hx hb dX4_digest_88 rfl (lv_at hl 0 rfl) ?_
                    refine xr_get hx hb hts in_X4 hown hE ((hM).1.1) rfl 4 (by decide) (hts _ q791) (fun _ h => h) rfl dX4_digest_89 ?_
                    refine lv_iload_n hx hb dX4_digest_92 rfl (lv_at hl 2 rfl) ?_
                    refine xr_aald hx hb hE 5 rfl rfl ((hM).1.2.2.1) (i := e) (by omega) (by omega) (v := .ref (tr e)) rfl dX4_digest_93 ?_
                    refine lv_astore (lv' := [(4, .ref (tr e)), (0, .ref mo), (1, .long (dE (tk ts so) ts ow n m (dS so ow (dC (tk ts so) ow n m sh 7) n) e)), (3, .int (nI e))]) hx hb dX4_digest_94 hl (by decide) rfl (fun ls hl => ?_)
                    refine lv_aload hx hb dX4_digest_96 (lv_at hl 0 rfl) ?_
                    refine xr_ilen hx hb hE (hM.1.2.2.2 e (by omega)) dX4_digest_98 ?_
                    refine lv_istore (lv' := [(5, .int (nI 5)), (4, .ref (tr e)), (0, .ref mo), (1, .long (dE (tk ts so) ts ow n m (dS so ow (dC (tk ts so) ow n m sh 7) n) e)), (3, .int (nI e))]) hx hb dX4_digest_99 hl (by decide) rfl (fun ls hl => ?_)
                    refine lv_iconst (v := (nI 0)) hx hb dX4_digest_101 (by decide) ?_
                    refine lv_istore (lv' := [(6, .int (nI 0)), (5, .int (nI 5)), (4, .ref (tr e)), (0, .ref mo), (1, .long (dE (tk ts so) ts ow n m (dS so ow (dC (tk ts so) ow n m sh 7) n) e)), (3, .int (nI e))]) hx hb dX4_digest_102 hl (by decide) rfl (fun ls hl => ?_)
                    have ih3 := ih
                    have lpJ : ∀ (nn : Nat) (j : Nat), (j ≤ 5) → (5 - j) < nn → ∀ (ls : Array Slot), lv_has ls 8 [(0, .ref mo), (1, .long (dE1 ts e (dE (tk ts so) ts ow n m (dS so ow (dC (tk ts so) ow n m sh 7) n) e) j)), (3, .int (nI e)), (4, .ref (tr e)), (5, .int (nI 5)), (6, .int (nI j))] → W P0 l e0 (headSpec (ws_ yX4_digest cX4_digest 8 (some .long)) ({ frames := 7, cells := 72, slots := 439, locals := 280 } : Room)).room s m0 ([.ref mo] : List Value).toArray below meth c0 H locs (42 + e * 6) (259 + e * 36) (MQ below (xQ (fun q => xMF mo aS aT aW aO tr q ∨ sz ≤ q) (fun v H => v = .long (dgs (tk ts so) ts so ow n m sh) ∧ xM E mo aS aT aW aO tr (nI 0) n so m ts sh ow ot H)) ([.ref mo] : List Value).toArray s 72 439 (fun q => xMF mo aS aT aW aO tr q ∨ sz ≤ q)) (F0 m0 104 ls []) := by
                      intro nn
                      induction nn with
                      | zero =>
                        intro j hj2 hnn
                        exact absurd hnn (Nat.not_lt_zero _)
                      | succ nn ih =>
                        intro j hj2 hnn ls hl
                        refine lv_iload hx hb dX4_digest_104 (lv_at hl 5 rfl) ?_
                        refine lv_iload hx hb dX4_digest_106 (lv_at hl 4 rfl) ?_
                        refine xr_cge (tgt := 134) hx hb dX4_digest_108 (by decide) (by omega) (by omega) (fun c_8 => ?_) (fun c_8 => ?_)
                        · obtain rfl : 5 = j := by omega
                          refine lv_iconst (v := (nI 0)) hx hb dX4_digest_134 (by decide) ?_
                          refine lv_istore (lv' := [(4, .int (nI 0)), (0, .ref mo), (1, .long (dE1 ts e (dE (tk ts so) ts ow n m (dS so ow (dC (tk ts so) ow n m sh 7) n) e) 5)), (3, .int (nI e)), (5, .int (nI 5)), (6, .int (nI 5))]) hx hb dX4_digest_135 hl (by decide) rfl (fun ls hl => ?_)
                          have lpW : ∀ (nn : Nat) (w : Nat), (w ≤ 6) → (6 - w) < nn → ∀ (H : Heap) (locs : List Loc), (True ∧ xM E mo aS aT aW aO tr (nI 0) n so m ts sh ow ot H) → va_S (fun q => xMF mo aS aT aW aO tr q ∨ sz ≤ q) s.heap H locs → ∀ (ls : Array Slot), lv_has ls 8 [(0, .ref mo), (1, .long (dE2 (tk ts so) ow n m e (dE1 ts e (dE (tk ts so) ts ow n m (dS so ow (dC (tk ts so) ow n m sh 7) n) e) 5) w)), (3, .int (nI e)), (4, .int (nI w))] → W P0 l e0 (headSpec (ws_ yX4_digest cX4_digest 8 (some .long)) ({ frames := 7, cells := 72, slots := 439, locals := 280 } : Room)).room s m0 ([.ref mo] : List Value).toArray below meth c0 H locs (42 + e * 6 + w) (259 + e * 36 + w * 6) (MQ below (xQ (fun q => xMF mo aS aT aW aO tr q ∨ sz ≤ q) (fun v H => v = .long (dgs (tk ts so) ts so ow n m sh) ∧ xM E mo aS aT aW aO tr (nI 0) n so m ts sh ow ot H)) ([.ref mo] : List Value).toArray s 72 439 (fun q => xMF mo aS aT aW aO tr q ∨ sz ≤ q)) (F0 m0 137 ls []) := by
                            intro nn
                            induction nn with
                            | zero =>
                              intro w hw2 hnn
                              exact absurd hnn (Nat.not_lt_zero _)
                            | succ nn ih =>
                              intro w hw2 hnn H locs hM hS ls hl
                              have hM := hM.2
                              refine lv_iload hx hb dX4_digest_137 (lv_at hl 3 rfl) ?_
                              refine lv_iconst (v := (nI 5)) hx hb dX4_digest_139 (by decide) ?_
                              refine xr_cgt (tgt := 164) hx hb dX4_digest_140 (by decide) (by omega) (by omega) (fun c_9 => ?_) (fun c_9 => ?_)
                              · obtain rfl : 6 = w := by omega
                                refine W.widen (k := 42 + (e + 1) * 6) (n := 259 + (e + 1) * 36) (by omega) (by omega) ?_
                                refine lv_iconst (v := (nI 0)) hx hb dX4_digest_164 (by decide) ?_
                                refine lv_istore (lv' := [(4, .int (nI 0)), (0, .ref mo), (1, .long (dE2 (tk ts so) ow n m e (dE1 ts e (dE (tk ts so) ts ow n m (dS so ow (dC (tk ts so) ow n m sh 7) n) e) 5) 6)), (3, .int (nI e))]) hx hb dX4_digest_165 hl (by decide) rfl (fun ls hl => ?_)
                                have lpO : ∀ (nn : Nat) (o : Nat), (o ≤ m) → (m - o) < nn → ∀ (ls : Array Slot), lv_has ls 8 [(0, .ref mo), (1, .long (dE3 (tk ts so) ow n e (dE2 (tk ts so) ow n m e (dE1 ts e (dE (tk ts so) ts ow n m (dS so ow (dC (tk ts so) ow n m sh 7) n) e) 5) 6) o)), (3, .int (nI e)), (4, .int (nI o))] → W P0 l e0 (headSpec (ws_ yX4_digest cX4_digest 8 (some .long)) ({ frames := 7, cells := 72, slots := 439, locals := 280 } : Room)).room s m0 ([.ref mo] : List Value).toArray below meth c0 H locs (42 + (e + 1) * 6) (259 + (e + 1) * 36) (MQ below (xQ (fun q => xMF mo aS aT aW aO tr q ∨ sz ≤ q) (fun v H => v = .long (dgs (tk ts so) ts so ow n m sh) ∧ xM E mo aS aT aW aO tr (nI 0) n so m ts sh ow ot H)) ([.ref mo] : List Value).toArray s 72 439 (fun q => xMF mo aS aT aW aO tr q ∨ sz ≤ q)) (F0 m0 167 ls []) := by
                                  intro nn
                                  induction nn with
                                  | zero =>
                                    intro o ho2 hnn
                                    exact absurd hnn (Nat.not_lt_zero _)
                                  | succ nn ih =>
                                    intro o ho2 hnn ls hl
                                    refine lv_iload hx hb dX4_digest_167 (lv_at hl 3 rfl) ?_
                                    refine lv_aload_n hx hb dX4_digest_169 rfl (lv_at hl 0 rfl) ?_
                                    refine xr_get hx hb hts in_X4 hown hE ((hM).1.1) rfl 3 (by decide) (hts _ q790) (fun _ h => h) rfl dX4_digest_170 ?_
                                    refine xr_cge (tgt := 201) hx hb dX4_digest_173 (by decide) (by omega) (by omega) (fun c_10 => ?_) (fun c_10 => ?_)
                                    · obtain rfl : m = o := by omega
                                      refine lv_iinc (v := (nI (e + 1))) (lv' := [(3, .int (nI (e + 1))), (0, .ref mo), (1, .long (dE3 (tk ts so) ow n e (dE2 (tk ts so) ow n m e (dE1 ts e (dE (tk ts so) ts ow n m (dS so ow (dC (tk ts so) ow n m sh 7) n) e) 5) 6) m)), (4, .int (nI m))]) hx hb dX4_digest_201 hl (k := 2) rfl (nI_add e 1) (by decide) rfl (fun ls hl => ?_)
                                      refine lv_goto (tgt := 80) hx hb dX4_digest_204 (by decide) ?_
                                      exact ih3 (e + 1) (by omega) (by omega) _ _ (⟨trivial, hM⟩) hS ls (lv_sub hl [1, 2, 0] rfl)
                                    · refine lv_lload_n hx hb dX4_digest_176 rfl (lv_at hl 1 rfl) ?_
                                      refine lv_ldc2 hx hb hown (hts _ q989) dX4_digest_177 ?_
                                      refine lv_lmul hx hb dX4_digest_180 ?_
                                      refine lv_aload_n hx hb dX4_digest_181 rfl (lv_at hl 0 rfl) ?_
                                      refine lv_aload_n hx hb dX4_digest_182 rfl (lv_at hl 0 rfl) ?_
                                      refine xr_get hx hb hts in_X4 hown hE ((hM).1.1) rfl 6 (by decide) (hts _ q793) (fun _ h => h) rfl dX4_digest_183 ?_
                                      refine lv_iload_n hx hb dX4_digest_186 rfl (lv_at hl 2 rfl) ?_
                                      refine lv_iload hx hb dX4_digest_187 (lv_at hl 3 rfl) ?_
                                      refine xr_ro (va_runV (As := [.ref aW, .int (nI e), .int (nI o)]) (rest := [.long ((dE3 (tk ts so) ow n e (dE2 (tk ts so) ow n m e (dE1 ts e (dE (tk ts so) ts ow n m (dS so ow (dC (tk ts so) ow n m sh 7) n) e) 5) 6) o) * 31)]) ⟨hx, hb, hml, hown, hts⟩ (mt_worth l E (fun q => xMF mo aS aT aW aO tr q ∨ sz ≤ q) mo aS aT aW aO tr (nI 0) n so m ts sh aW ow e (nI o) (by omega) hn hso) (cwV 3 hts (lw_V q908 q910 qs25 q44 q911) rfl rfl rfl (by decide +kernel) ⟨Nat.le_of_ble_eq_true rfl, Nat.le_of_ble_eq_true rfl⟩) ⟨xPre_blind, ((hM).1.1).recv hE rfl, fun U hU hW => xPre_at hE hS (fun _ h => h) (⟨hM.1, hM.2.1⟩) hU hW⟩ rfl rfl hl.1 rfl (lv_room (Nat.le_of_ble_eq_true rfl)) dX4_digest_189 ⟨(show 42 + (e + 1) * 6 + 0 ≤ 72 by omega), (show 259 + (e + 1) * 36 + 0 ≤ 439 by omega)⟩) ?_
                                      refine lv_i2l hx hb dX4_digest_192 rfl ?_
                                      refine lv_ladd hx hb dX4_digest_193 ?_
                                      refine lv_lstore_n (lv' := [(1, .long (((dE3 (tk ts so) ow n e (dE2 (tk ts so) ow n m e (dE1 ts e (dE (tk ts so) ts ow n m (dS so ow (dC (tk ts so) ow n m sh 7) n) e) 5) 6) o) * 31) + ((nI (wo (tk ts so e) ow (nI o) n)).toInt64))), (0, .ref mo), (3, .int (nI e)), (4, .int (nI o))]) hx hb dX4_digest_194 rfl hl (by decide) rfl (fun ls hl => ?_)
                                      refine lv_iinc (v := (nI (o + 1))) (lv' := [(4, .int (nI (o + 1))), (1, .long (((dE3 (tk ts so) ow n e (dE2 (tk ts so) ow n m e (dE1 ts e (dE (tk ts so) ts ow n m (dS so ow (dC (tk ts so) ow n m sh 7) n) e) 5) 6) o) * 31) + ((nI (wo (tk ts so e) ow (nI o) n)).toInt64))), (0, .ref mo), (3, .int (nI e))]) hx hb dX4_digest_195 hl (k := 3) rfl (nI_add o 1) (by decide) rfl (fun ls hl => ?_)
                                      refine lv_goto (tgt := 167) hx hb dX4_digest_198 (by decide) ?_
                                      exact ih (o + 1) (by omega) (by omega) ls (lv_sub hl [2, 1, 3, 0] rfl)
                                exact lpO (m + 1) 0 (by omega) (by omega) ls (lv_sub hl [1, 2, 3, 0] rfl)
                              · refine lv_lload_n hx hb dX4_digest_143 rfl (lv_at hl 1 rfl) ?_
                                refine lv_ldc2 hx hb hown (hts _ q989) dX4_digest_144 ?_
                                refine lv_lmul hx hb dX4_digest_147 ?_
                                refine lv_aload_n hx hb dX4_digest_148 rfl (lv_at hl 0 rfl) ?_
                                refine lv_iload_n hx hb dX4_digest_149 rfl (lv_at hl 2 rfl) ?_
                                refine lv_iload hx hb dX4_digest_150 (lv_at hl 3 rfl) ?_
                                refine xr_mu (va_runV (As := [.int (nI e), .int (nI w)]) (rest := [.long ((dE2 (tk ts so) ow n m e (dE1 ts e (dE (tk ts so) ts ow n m (dS so ow (dC (tk ts so) ow n m sh 7) n) e) 5) w) * 31)]) ⟨hx, hb, hml, hown, hts⟩ (mt_eaterTold l E mo aS aT aW aO tr (nI 0) n so m ts sh ow H.size e w (by omega) (by omega) hn hm hso hts9) (cwV 2 hts (lw_V q932 q934 qs27 q44 q935) rfl rfl rfl (by decide +kernel) ⟨Nat.le_of_ble_eq_true rfl, Nat.le_of_ble_eq_true rfl⟩) ⟨xPre_blind, ((hM).1.1).recv hE rfl, fun U hU hW => xPre_at hE hS (fun q h => Or.inr (Nat.le_trans (by have := hS.1; omega) h)) (⟨rfl, hM.1, hM.2.1⟩) hU hW⟩ rfl rfl hl.1 rfl (lv_room (Nat.le_of_ble_eq_true rfl)) dX4_digest_152 ⟨(show 42 + e * 6 + w + 1 ≤ 72 by omega), (show 259 + e * 36 + w * 6 + 6 ≤ 439 by omega)⟩) hS (fun q h => Or.inr (Nat.le_trans (by have := hS.1; omega) h)) (fun q h => Or.inr (Nat.le_trans (by have := hS.1; omega) h)) (fun vv H_11 L_12 hP_ hz_13 hk_14 hS => ?_)
                                have hv_ := hP_
                                subst hv_
                                have hM := hM.kept (fun q hq => hk_14 q (hM.lt hq) (Nat.not_le.mpr (hM.lt hq)))
                                refine W.eq (g2 := F0 m0 155 ls [.int (nI (tld (tk ts so) ow n m e w)), .long ((dE2 (tk ts so) ow n m e (dE1 ts e (dE (tk ts so) ts ow n m (dS so ow (dC (tk ts so) ow n m sh 7) n) e) 5) w) * 31)]) rfl ?_
                                refine lv_i2l hx hb dX4_digest_155 rfl ?_
                                refine lv_ladd hx hb dX4_digest_156 ?_
                                refine lv_lstore_n (lv' := [(1, .long (((dE2 (tk ts so) ow n m e (dE1 ts e (dE (tk ts so) ts ow n m (dS so ow (dC (tk ts so) ow n m sh 7) n) e) 5) w) * 31) + ((nI (tld (tk ts so) ow n m e w)).toInt64))), (0, .ref mo), (3, .int (nI e)), (4, .int (nI w))]) hx hb dX4_digest_157 rfl hl (by decide) rfl (fun ls hl => ?_)
                                refine lv_iinc (v := (nI (w + 1))) (lv' := [(4, .int (nI (w + 1))), (1, .long (((dE2 (tk ts so) ow n m e (dE1 ts e (dE (tk ts so) ts ow n m (dS so ow (dC (tk ts so) ow n m sh 7) n) e) 5) w) * 31) + ((nI (tld (tk ts so) ow n m e w)).toInt64))), (0, .ref mo), (3, .int (nI e))]) hx hb dX4_digest_158 hl (k := 3) rfl (nI_add w 1) (by decide) rfl (fun ls hl => ?_)
                                refine lv_goto (tgt := 137) hx hb dX4_digest_161 (by decide) ?_
                                refine W.widen (k := 42 + e * 6 + (w + 1)) (n := 259 + e * 36 + (w + 1) * 6) (by omega) (by omega) ?_
                                exact ih (w + 1) (by omega) (by omega) _ _ (⟨trivial, hM⟩) hS ls (lv_sub hl [2, 1, 3, 0] rfl)
                          refine W.widen (k := 42 + e * 6 + 0) (n := 259 + e * 36 + 0 * 6) (by omega) (by omega) ?_
                          exact lpW (6 + 1) 0 (by omega) (by omega) _ _ (⟨trivial, hM⟩) hS ls (lv_sub hl [1, 2, 3, 0] rfl)
                        · refine lv_aload hx hb dX4_digest_111 (lv_at hl 3 rfl) ?_
                          refine lv_iload hx hb dX4_digest_113 (lv_at hl 5 rfl) ?_
                          refine xr_iald hx hb hE (hM.1.2.2.2 e (by omega)) (i := j) (by omega) (by omega) dX4_digest_115 ?_
                          refine lv_istore (lv' := [(7, .int (nI (ts e j))), (0, .ref mo), (1, .long (dE1 ts e (dE (tk ts so) ts ow n m (dS so ow (dC (tk ts so) ow n m sh 7) n) e) j)), (3, .int (nI e)), (4, .ref (tr e)), (5, .int (nI 5)), (6, .int (nI j))]) hx hb dX4_digest_116 hl (by decide) rfl (fun ls hl => ?_)
                          refine lv_lload_n hx hb dX4_digest_118 rfl (lv_at hl 2 rfl) ?_
                          refine lv_ldc2 hx hb hown (hts _ q989) dX4_digest_119 ?_
                          refine lv_lmul hx hb dX4_digest_122 ?_
                          refine lv_iload hx hb dX4_digest_123 (lv_at hl 0 rfl) ?_
                          refine lv_i2l hx hb dX4_digest_125 rfl ?_
                          refine lv_ladd hx hb dX4_digest_126 ?_
                          refine lv_lstore_n (lv' := [(1, .long (((dE1 ts e (dE (tk ts so) ts ow n m (dS so ow (dC (tk ts so) ow n m sh 7) n) e) j) * 31) + ((nI (ts e j)).toInt64))), (7, .int (nI (ts e j))), (0, .ref mo), (3, .int (nI e)), (4, .ref (tr e)), (5, .int (nI 5)), (6, .int (nI j))]) hx hb dX4_digest_127 rfl hl (by decide) rfl (fun ls hl => ?_)
                          refine lv_iinc (v := (nI (j + 1))) (lv' := [(6, .int (nI (j + 1))), (1, .long (((dE1 ts e (dE (tk ts so) ts ow n m (dS so ow (dC (tk ts so) ow n m sh 7) n) e) j) * 31) + ((nI (ts e j)).toInt64))), (7, .int (nI (ts e j))), (0, .ref mo), (3, .int (nI e)), (4, .ref (tr e)), (5, .int (nI 5))]) hx hb dX4_digest_128 hl (k := 6) rfl (nI_add j 1) (by decide) rfl (fun ls hl => ?_)
                          refine lv_goto (tgt := 104) hx hb dX4_digest_131 (by decide) ?_
                          exact ih (j + 1) (by omega) (by omega) ls (lv_sub hl [3, 1, 4, 5, 6, 0] rfl)
                    exact lpJ (5 + 1) 0 (by omega) (by omega) ls (lv_sub hl [3, 4, 5, 2, 1, 0] rfl)
              refine W.widen (k := 42 + 0 * 6) (n := 259 + 0 * 36) (by omega) (by omega) ?_
              exact lp3 (m + 1) 0 (by omega) (by omega) _ _ (⟨trivial, hM⟩) hS ls (lv_sub hl [1, 2, 0] rfl)
            · refine lv_lload_n hx hb dX4_digest_46 rfl (lv_at hl 1 rfl) ?_
              refine lv_ldc2 hx hb hown (hts _ q989) dX4_digest_47 ?_
              refine lv_lmul hx hb dX4_digest_50 ?_
              refine lv_aload_n hx hb dX4_digest_51 rfl (lv_at hl 0 rfl) ?_
              refine xr_get hx hb hts in_X4 hown hE ((hM).1.1) rfl 2 (by decide) (hts _ q789) (fun _ h => h) rfl dX4_digest_52 ?_
              refine lv_iload_n hx hb dX4_digest_55 rfl (lv_at hl 2 rfl) ?_
              refine xr_iald hx hb hE ((hM).1.2.1) (i := k) (by omega) (by omega) dX4_digest_56 ?_
              refine lv_i2l hx hb dX4_digest_57 rfl ?_
              refine lv_ladd hx hb dX4_digest_58 ?_
              refine lv_ldc2 hx hb hown (hts _ q989) dX4_digest_59 ?_
              refine lv_lmul hx hb dX4_digest_62 ?_
              refine lv_aload_n hx hb dX4_digest_63 rfl (lv_at hl 0 rfl) ?_
              refine xr_get hx hb hts in_X4 hown hE ((hM).1.1) rfl 6 (by decide) (hts _ q793) (fun _ h => h) rfl dX4_digest_64 ?_
              refine lv_iload_n hx hb dX4_digest_67 rfl (lv_at hl 2 rfl) ?_
              refine xr_iald hx hb hE ((hM).2.1) (i := k) (by omega) (by omega) dX4_digest_68 ?_
              refine lv_i2l hx hb dX4_digest_69 rfl ?_
              refine lv_ladd hx hb dX4_digest_70 ?_
              refine lv_lstore_n (lv' := [(1, .long (((((dS so ow (dC (tk ts so) ow n m sh 7) k) * 31) + ((nI (so k)).toInt64)) * 31) + ((ow k).toInt64))), (0, .ref mo), (3, .int (nI k))]) hx hb dX4_digest_71 rfl hl (by decide) rfl (fun ls hl => ?_)
              refine lv_iinc (v := (nI (k + 1))) (lv' := [(3, .int (nI (k + 1))), (1, .long (((((dS so ow (dC (tk ts so) ow n m sh 7) k) * 31) + ((nI (so k)).toInt64)) * 31) + ((ow k).toInt64))), (0, .ref mo)]) hx hb dX4_digest_72 hl (k := 2) rfl (nI_add k 1) (by decide) rfl (fun ls hl => ?_)
              refine lv_goto (tgt := 38) hx hb dX4_digest_75 (by decide) ?_
              exact ih (k + 1) (by omega) (by omega) ls (lv_sub hl [2, 1, 0] rfl)
        exact lp2 (n + 1) 0 (by omega) (by omega) ls (lv_sub hl [1, 2, 0] rfl)
      · refine lv_lload_n hx hb dX4_digest_17 rfl (lv_at hl 1 rfl) ?_
        refine lv_ldc2 hx hb hown (hts _ q989) dX4_digest_18 ?_
        refine lv_lmul hx hb dX4_digest_21 ?_
        refine lv_aload_n hx hb dX4_digest_22 rfl (lv_at hl 0 rfl) ?_
        refine lv_iload_n hx hb dX4_digest_23 rfl (lv_at hl 2 rfl) ?_
        refine xr_mu (va_runV (As := [.int (nI w)]) (rest := [.long ((dC (tk ts so) ow n m sh w) * 31)]) ⟨hx, hb, hml, hown, hts⟩ (mt_counted l E mo aS aT aW aO tr (nI 0) n so m ts sh ow H.size w (by omega) hn hm hso hts9) (cwV 1 hts (lw_V q952 q954 qs30 q44 q955) rfl rfl rfl (by decide +kernel) ⟨Nat.le_of_ble_eq_true rfl, Nat.le_of_ble_eq_true rfl⟩) ⟨xPre_blind, ((hM).1.1).recv hE rfl, fun U hU hW => xPre_at hE hS (fun q h => Or.inr (Nat.le_trans (by have := hS.1; omega) h)) (⟨rfl, hM.1, hM.2.1⟩) hU hW⟩ rfl rfl hl.1 rfl (lv_room (Nat.le_of_ble_eq_true rfl)) dX4_digest_24 ⟨(show w * 6 + 6 ≤ 72 by omega), (show w * 37 + 37 ≤ 439 by omega)⟩) hS (fun q h => Or.inr (Nat.le_trans (by have := hS.1; omega) h)) (fun q h => Or.inr (Nat.le_trans (by have := hS.1; omega) h)) (fun vv H_15 L_16 hP_ hz_17 hk_18 hS => ?_)
        have hv_ := hP_
        subst hv_
        have hM := hM.kept (fun q hq => hk_18 q (hM.lt hq) (Nat.not_le.mpr (hM.lt hq)))
        refine W.eq (g2 := F0 m0 27 ls [.int (cnt (tk ts so) ow n m sh w), .long ((dC (tk ts so) ow n m sh w) * 31)]) rfl ?_
        refine lv_i2l hx hb dX4_digest_27 rfl ?_
        refine lv_ladd hx hb dX4_digest_28 ?_
        refine lv_lstore_n (lv' := [(1, .long (((dC (tk ts so) ow n m sh w) * 31) + ((cnt (tk ts so) ow n m sh w).toInt64))), (0, .ref mo), (3, .int (nI w))]) hx hb dX4_digest_29 rfl hl (by decide) rfl (fun ls hl => ?_)
        refine lv_iinc (v := (nI (w + 1))) (lv' := [(3, .int (nI (w + 1))), (1, .long (((dC (tk ts so) ow n m sh w) * 31) + ((cnt (tk ts so) ow n m sh w).toInt64))), (0, .ref mo)]) hx hb dX4_digest_30 hl (k := 2) rfl (nI_add w 1) (by decide) rfl (fun ls hl => ?_)
        refine lv_goto (tgt := 11) hx hb dX4_digest_33 (by decide) ?_
        refine W.widen (k := (w + 1) * 6) (n := (w + 1) * 37) (by omega) (by omega) ?_
        exact ih (w + 1) (by omega) (by omega) _ _ (⟨trivial, hM⟩) hS ls (lv_sub hl [2, 1, 0] rfl)
  refine W.widen (k := 0 * 6) (n := 0 * 37) (by omega) (by omega) ?_
  exact lp1 (7 + 1) 0 (by omega) (by omega) _ _ (⟨trivial, hM⟩) hS ls (lv_sub hl [2, 1, 0] rfl)
