set_option maxHeartbeats 4000000 in
set_option maxRecDepth 100000 in
theorem mt_no (l : Launch) (E : xG) (mo aS aT aW aO : Nat) (th : Int32) (n m : Nat) (sh : Int32) (k : Nat) : Met l yX4_no (ws_ yX4_no cX4_no 2 (some .int)) ({ frames := 1, cells := 0, slots := 0, locals := 40 } : Room) (xPre E (fun q => q = mo) [.ref mo, .int (nI k)] (fun H => xO E mo 3 [.int th, .int (nI n), .ref aS, .int (nI m), .ref aT, .int sh, .ref aW, .ref aO] H)) (xQ (fun q => q = mo) (fun v H => v = .int (nI 0) ∧ xO E mo 3 [.int (nI k), .int (nI n), .ref aS, .int (nI m), .ref aT, .int sh, .ref aW, .ref aO] H)) 0 0 (fun q => q = mo) := by
  refine Met.ofW (cc := cX4_no) (maxL := 2) (ret := (some .int)) (by decide) rfl ?_
  intro P0 e0 s m0 args below meth c0 s₁ B hml hv
  obtain ⟨rfl, hE, hO⟩ := hv
  have hx := B.exec
  have hb := B.bytes
  have hr := B.returns
  have hts := atoms_spec (ws := ws_ yX4_no cX4_no 2 (some .int)) B.pre
  have hts : ∀ w ∈ lw_all, w.before _ s = true := fun w h => hts w (List.mem_cons_of_mem _ h)
  have hown : s.vm.findClass RX4 = some m0.cls := findClass_of_methodNamed B.named
  have hlocks := B.notSynchronized
  have hS : va_S (fun q => q = mo) s.heap s.heap [] := va_S.rf
  have hl := lv_entry ([.ref mo, .int (nI k)]) (n := 2) (Nat.le_of_ble_eq_true rfl)
  rw [lg_entry_eq]
  generalize (lg_sl ([.ref mo, .int (nI k)]) ++ List.replicate (2 - (lg_sl ([.ref mo, .int (nI k)])).length) Slot.unset).toArray = ls at hl ⊢
  have hl : lv_has ls 2 [(0, .ref mo), (1, .int (nI k))] := hl
  refine lv_aload_n hx hb dX4_no_0 rfl (lv_at hl 0 rfl) ?_
  refine lv_iload_n hx hb dX4_no_1 rfl (lv_at hl 1 rfl) ?_
  refine xr_put hx hb hts in_X4 tyX4 tyX4_ok nmX4 hown hE hS rfl hO rfl 0 (by decide) (hts _ q787) (fun _ h => h) rfl (ty := tyX4 0) (by decide) rfl rfl (Nat.le_of_ble_eq_true rfl) dX4_no_2 (fun H_1 L_2 hO hz_3 ho_4 hS => ?_)
  have hO : xO E mo 3 [.int (nI k), .int (nI n), .ref aS, .int (nI m), .ref aT, .int sh, .ref aW, .ref aO] H_1 := hO
  refine lv_iconst (v := (nI 0)) hx hb dX4_no_5 (by decide) ?_
  exact W.iret hx hb hr (fun t ht hW => ⟨⟨_, rfl, by rw [ht]; exact ⟨rfl, hO⟩⟩, hS.F ht⟩) hS.2.2 dX4_no_6

set_option maxHeartbeats 4000000 in
set_option maxRecDepth 100000 in
theorem mt_thrown (l : Launch) (E : xG) (A : Nat → Prop) (mo aS aT aW aO : Nat) (tr : Nat → Nat) (th : Int32) (n : Nat) (so : Nat → Nat) (m : Nat) (ts : Nat → Nat → Nat) (sh : Int32) (ow ot : Nat → Int32) : Met l yX4_thrown (ws_ yX4_thrown cX4_thrown 1 (some .int)) ({ frames := 1, cells := 0, slots := 0, locals := 40 } : Room) (xPre E A [.ref mo] (fun H => xM E mo aS aT aW aO tr th n so m ts sh ow ot H)) (xRo (.int th)) 0 0 (fun _ => False) := by
  refine Met.ofW (cc := cX4_thrown) (maxL := 1) (ret := (some .int)) (by decide) rfl ?_
  intro P0 e0 s m0 args below meth c0 s₁ B hml hv
  obtain ⟨rfl, hE, hM⟩ := hv
  have hx := B.exec
  have hb := B.bytes
  have hr := B.returns
  have hts := atoms_spec (ws := ws_ yX4_thrown cX4_thrown 1 (some .int)) B.pre
  have hts : ∀ w ∈ lw_all, w.before _ s = true := fun w h => hts w (List.mem_cons_of_mem _ h)
  have hown : s.vm.findClass RX4 = some m0.cls := findClass_of_methodNamed B.named
  have hlocks := B.notSynchronized
  have hS : va_S A s.heap s.heap [] := va_S.rf
  have hl := lv_entry ([.ref mo]) (n := 1) (Nat.le_of_ble_eq_true rfl)
  rw [lg_entry_eq]
  generalize (lg_sl ([.ref mo]) ++ List.replicate (1 - (lg_sl ([.ref mo])).length) Slot.unset).toArray = ls at hl ⊢
  have hl : lv_has ls 1 [(0, .ref mo)] := hl
  refine lv_aload_n hx hb dX4_thrown_0 rfl (lv_at hl 0 rfl) ?_
  refine xr_get hx hb hts in_X4 hown hE ((hM).1.1) rfl 0 (by decide) (hts _ q787) (fun _ h => h) rfl dX4_thrown_1 ?_
  exact W.iret hx hb hr (fun t ht hW => ⟨rfl, ht⟩) (fun q h => by cases h) dX4_thrown_4

set_option maxHeartbeats 4000000 in
set_option maxRecDepth 100000 in
theorem mt_bake_ok (l : Launch) (E : xG) (mo aS aT aW aO : Nat) (tr : Nat → Nat) (th : Int32) (n : Nat) (so : Nat → Nat) (m : Nat) (ts : Nat → Nat → Nat) (sh : Int32) (ow ot : Nat → Int32) (sz : Nat) (j : Nat) (hj1 : 1 ≤ j) (hj2 : j ≤ 40) (hn : n ≤ 40) (hm : m ≤ 5) (hd : xMd mo aS aT aW aO tr) (hso : ∀ k, so k < 5) (hts9 : ∀ e k, ts e k ≤ 9) : Met l yX4_bake (ws_ yX4_bake cX4_bake 4 (some .int)) ({ frames := 7, cells := 0, slots := 0, locals := 280 } : Room) (xPre E (fun q => xMF mo aS aT aW aO tr q ∨ sz ≤ q) [.ref mo, .int (nI j)] (fun H => H.size = sz ∧ xM E mo aS aT aW aO tr th n so m ts sh ow ot H)) (xQ (fun q => xMF mo aS aT aW aO tr q ∨ sz ≤ q) (fun v H => v = .int (nI n) ∧ ∃ so', xM E mo aS aT aW aO tr (nI 0) j so' m ts sh (fun _ => -1) ot H ∧ ∀ i, i < 40 → so' i = 0)) 0 0 (fun q => xMF mo aS aT aW aO tr q ∨ sz ≤ q) := by
  refine Met.ofW (cc := cX4_bake) (maxL := 4) (ret := (some .int)) (by decide) rfl ?_
  intro P0 e0 s m0 args below meth c0 s₁ B hml hv
  obtain ⟨rfl, hE, hsz, hM⟩ := hv
  have hx := B.exec
  have hb := B.bytes
  have hr := B.returns
  have hts := atoms_spec (ws := ws_ yX4_bake cX4_bake 4 (some .int)) B.pre
  have hts : ∀ w ∈ lw_all, w.before _ s = true := fun w h => hts w (List.mem_cons_of_mem _ h)
  have hown : s.vm.findClass RX4 = some m0.cls := findClass_of_methodNamed B.named
  have hlocks := B.notSynchronized
  have hS : va_S (fun q => xMF mo aS aT aW aO tr q ∨ sz ≤ q) s.heap s.heap [] := va_S.rf
  have hl := lv_entry ([.ref mo, .int (nI j)]) (n := 4) (Nat.le_of_ble_eq_true rfl)
  rw [lg_entry_eq]
  generalize (lg_sl ([.ref mo, .int (nI j)]) ++ List.replicate (4 - (lg_sl ([.ref mo, .int (nI j)])).length) Slot.unset).toArray = ls at hl ⊢
  have hl : lv_has ls 4 [(0, .ref mo), (1, .int (nI j))] := hl
  refine lv_aload_n hx hb dX4_bake_0 rfl (lv_at hl 0 rfl) ?_
  refine lv_iconst (v := (nI 0)) hx hb dX4_bake_1 (by decide) ?_
  refine xr_put hx hb hts in_X4 tyX4 tyX4_ok nmX4 hown hE hS (Or.inl (Or.inl (Or.inl rfl))) ((hM).1.1) rfl 0 (by decide) (hts _ q787) (fun _ h => h) rfl (ty := tyX4 0) (by decide) rfl rfl (Nat.le_of_ble_eq_true rfl) dX4_bake_2 (fun H_1 L_2 hO_ hz_3 ho_4 hS => ?_)
  have hO_ : xO E mo 3 [.int (nI 0), .int (nI n), .ref aS, .int (nI m), .ref aT, .int sh, .ref aW, .ref aO] H_1 := hO_
  have hM := hM.put hd hO_ (fun q _ h => ho_4 q h)
  refine lv_iload_n hx hb dX4_bake_5 rfl (lv_at hl 1 rfl) ?_
  refine lv_iconst (v := (nI 1)) hx hb dX4_bake_6 (by decide) ?_
  refine lv_bipush (v := (nI 40)) hx hb dX4_bake_7 (by decide) ?_
  refine xr_ro (va_runS (As := [.int (nI j), .int (nI 1), .int (nI 40)]) (rest := []) ⟨hx, hb, hml, hown, hts⟩ (mt_isIn_t l E (fun q => xMF mo aS aT aW aO tr q ∨ sz ≤ q) (nI j) (nI 1) (nI 40) (nI_le hj1 (by omega)) (nI_le hj2 (by omega))) (va_cwS 3 hts (lw_S q820 q821 q44 q822) rfl rfl rfl (by decide +kernel) ⟨Nat.le_of_ble_eq_true rfl, Nat.le_of_ble_eq_true rfl⟩) ⟨xPre_blind, fun U hU hW => xPre_at hE hS (fun _ h => h) trivial hU hW⟩ rfl rfl hl.1 rfl (lv_room (Nat.le_of_ble_eq_true rfl)) dX4_bake_9 ⟨(show 0 + 0 ≤ 0 by omega), (show 0 + 0 ≤ 0 by omega)⟩) ?_
  refine xr_zne (tgt := 21) hx hb dX4_bake_12 (by decide) (by omega) (fun c_ => ?_) (fun c_ => absurd c_ (by omega))
  refine lv_aload_n hx hb dX4_bake_21 rfl (lv_at hl 0 rfl) ?_
  refine xr_get hx hb hts in_X4 hown hE ((hM).1.1) rfl 1 (by decide) (hts _ q788) (fun _ h => h) rfl dX4_bake_22 ?_
  refine lv_istore_n (lv' := [(2, .int (nI n)), (0, .ref mo), (1, .int (nI j))]) hx hb dX4_bake_25 rfl hl (by decide) rfl (fun ls hl => ?_)
  refine lv_aload_n hx hb dX4_bake_26 rfl (lv_at hl 1 rfl) ?_
  refine lv_iload_n hx hb dX4_bake_27 rfl (lv_at hl 2 rfl) ?_
  refine xr_put hx hb hts in_X4 tyX4 tyX4_ok nmX4 hown hE hS (Or.inl (Or.inl (Or.inl rfl))) ((hM).1.1) rfl 1 (by decide) (hts _ q788) (fun _ h => h) rfl (ty := tyX4 1) (by decide) rfl rfl (Nat.le_of_ble_eq_true rfl) dX4_bake_28 (fun H_5 L_6 hO_ hz_7 ho_8 hS => ?_)
  have hO_ : xO E mo 3 [.int (nI 0), .int (nI j), .ref aS, .int (nI m), .ref aT, .int sh, .ref aW, .ref aO] H_5 := hO_
  have hM := hM.put hd hO_ (fun q _ h => ho_8 q h)
  refine lv_aload_n hx hb dX4_bake_31 rfl (lv_at hl 1 rfl) ?_
  refine xr_get hx hb hts in_X4 hown hE ((hM).1.1) rfl 6 (by decide) (hts _ q793) (fun _ h => h) rfl dX4_bake_32 ?_
  refine xr_muv (va_runS (As := [.ref aW]) (rest := []) ⟨hx, hb, hml, hown, hts⟩ (mt_free l E aW ow) (va_cwS 1 hts (lw_S q784 q785 q44 q786) rfl rfl rfl (by decide +kernel) ⟨Nat.le_of_ble_eq_true rfl, Nat.le_of_ble_eq_true rfl⟩) ⟨xPre_blind, fun U hU hW => xPre_at hE hS (fun q h => Or.inl (Or.inr (Or.inl h))) hM.2.1 hU hW⟩ rfl rfl hl.1 rfl (lv_room (Nat.le_of_ble_eq_true rfl)) dX4_bake_35 ⟨(show 0 + 0 ≤ 0 by omega), (show 0 + 0 ≤ 0 by omega)⟩) hS (fun q h => Or.inl (Or.inr (Or.inl h))) (fun q h => Or.inl (Or.inr (Or.inl h))) (fun H_9 L_10 hP_ hz_11 hk_12 hS => ?_)
  obtain ⟨r_, hR_, hr_⟩ := hP_
  have hM := hM.setW hd (ow' := fun _ => -1) (hR_.to (fun j hj => hr_ j hj)) (fun q h1 h2 => hk_12 q h1 h2)
  refine lv_iconst (v := (nI 0)) hx hb dX4_bake_38 (by decide) ?_
  refine lv_istore_n (lv' := [(3, .int (nI 0)), (2, .int (nI n)), (0, .ref mo), (1, .int (nI j))]) hx hb dX4_bake_39 rfl hl (by decide) rfl (fun ls hl => ?_)
  have lp : ∀ (nn : Nat) (k : Nat), (k ≤ 40) → (40 - k) < nn → ∀ (H : Heap) (locs : List Loc), (True ∧ xM E mo aS aT aW aO tr (nI 0) j (fun i => if i < k then 0 else so i) m ts sh (fun _ => -1) ot H) → va_S (fun q => xMF mo aS aT aW aO tr q ∨ sz ≤ q) s.heap H locs → ∀ (ls : Array Slot), lv_has ls 4 [(0, .ref mo), (2, .int (nI n)), (3, .int (nI k))] → W P0 l e0 (headSpec (ws_ yX4_bake cX4_bake 4 (some .int)) ({ frames := 7, cells := 0, slots := 0, locals := 280 } : Room)).room s m0 ([.ref mo, .int (nI j)] : List Value).toArray below meth c0 H locs 0 0 (MQ below (xQ (fun q => xMF mo aS aT aW aO tr q ∨ sz ≤ q) (fun v H => v = .int (nI n) ∧ ∃ so', xM E mo aS aT aW aO tr (nI 0) j so' m ts sh (fun _ => -1) ot H ∧ ∀ i, i < 40 → so' i = 0)) ([.ref mo, .int (nI j)] : List Value).toArray s 0 0 (fun q => xMF mo aS aT aW aO tr q ∨ sz ≤ q)) (F0 m0 40 ls []) := by
    intro nn
    induction nn with
    | zero =>
      intro k hk1 hnn
      exact absurd hnn (Nat.not_lt_zero _)
    | succ nn ih =>
      intro k hk1 hnn H locs hM hS ls hl
      have hM := hM.2
      refine lv_iload_n hx hb dX4_bake_40 rfl (lv_at hl 2 rfl) ?_
      refine lv_bipush (v := (nI 40)) hx hb dX4_bake_41 (by decide) ?_
      refine xr_cge (tgt := 59) hx hb dX4_bake_43 (by decide) (by omega) (by omega) (fun c_13 => ?_) (fun c_13 => ?_)
      · obtain rfl : 40 = k := by omega
        refine lv_iload_n hx hb dX4_bake_59 rfl (lv_at hl 1 rfl) ?_
        exact W.iret hx hb hr (fun t ht hW => ⟨⟨_, rfl, by rw [ht]; exact ⟨rfl, _, hM, fun i hi => if_pos hi⟩⟩, hS.F ht⟩) hS.2.2 dX4_bake_60
      · refine lv_aload_n hx hb dX4_bake_46 rfl (lv_at hl 0 rfl) ?_
        refine xr_get hx hb hts in_X4 hown hE ((hM).1.1) rfl 2 (by decide) (hts _ q789) (fun _ h => h) rfl dX4_bake_47 ?_
        refine lv_iload_n hx hb dX4_bake_50 rfl (lv_at hl 2 rfl) ?_
        refine lv_iconst (v := (nI 0)) hx hb dX4_bake_51 (by decide) ?_
        refine xr_iast hx hb hE hS (Or.inl (Or.inl (Or.inr (Or.inl rfl)))) ((hM).1.2.1) (i := k) (by omega) (by omega) dX4_bake_52 (fun H_14 L_15 hI_ hz_16 ho_17 hS => ?_)
        have hI_ : xI E aS 40 (fun i => nI ((fun i => if i < k + 1 then 0 else so i) i)) H_14 := by rw [← (bk_s so k)]; exact hI_
        have hM := hM.setS hd hI_ (fun q _ h => ho_17 q h)
        refine lv_iinc (v := (nI (k + 1))) (lv' := [(3, .int (nI (k + 1))), (0, .ref mo), (2, .int (nI n))]) hx hb dX4_bake_53 hl (k := 2) rfl (nI_add k 1) (by decide) rfl (fun ls hl => ?_)
        refine lv_goto (tgt := 40) hx hb dX4_bake_56 (by decide) ?_
        exact ih (k + 1) (by omega) (by omega) _ _ (⟨trivial, hM⟩) hS ls (lv_sub hl [1, 2, 0] rfl)
  exact lp (40 + 1) 0 (by omega) (by omega) _ _ (⟨trivial, hM⟩) hS ls (lv_sub hl [2, 1, 0] rfl)

set_option maxHeartbeats 4000000 in
set_option maxRecDepth 100000 in
theorem mt_bake_no (l : Launch) (E : xG) (mo aS aT aW aO : Nat) (tr : Nat → Nat) (th : Int32) (n : Nat) (so : Nat → Nat) (m : Nat) (ts : Nat → Nat → Nat) (sh : Int32) (ow ot : Nat → Int32) (sz : Nat) (x : Int32) (h : x < nI 1 ∨ nI 40 < x) (hn : n ≤ 40) (hm : m ≤ 5) (hd : xMd mo aS aT aW aO tr) (hso : ∀ k, so k < 5) (hts9 : ∀ e k, ts e k ≤ 9) : Met l yX4_bake (ws_ yX4_bake cX4_bake 4 (some .int)) ({ frames := 7, cells := 0, slots := 0, locals := 280 } : Room) (xPre E (fun q => xMF mo aS aT aW aO tr q ∨ sz ≤ q) [.ref mo, .int x] (fun H => H.size = sz ∧ xM E mo aS aT aW aO tr th n so m ts sh ow ot H)) (xQ (fun q => xMF mo aS aT aW aO tr q ∨ sz ≤ q) (fun v H => v = .int (nI 0) ∧ xM E mo aS aT aW aO tr (nI 1) n so m ts sh ow ot H)) 0 0 (fun q => xMF mo aS aT aW aO tr q ∨ sz ≤ q) := by
  refine Met.ofW (cc := cX4_bake) (maxL := 4) (ret := (some .int)) (by decide) rfl ?_
  intro P0 e0 s m0 args below meth c0 s₁ B hml hv
  obtain ⟨rfl, hE, hsz, hM⟩ := hv
  have hx := B.exec
  have hb := B.bytes
  have hr := B.returns
  have hts := atoms_spec (ws := ws_ yX4_bake cX4_bake 4 (some .int)) B.pre
  have hts : ∀ w ∈ lw_all, w.before _ s = true := fun w h => hts w (List.mem_cons_of_mem _ h)
  have hown : s.vm.findClass RX4 = some m0.cls := findClass_of_methodNamed B.named
  have hlocks := B.notSynchronized
  have hS : va_S (fun q => xMF mo aS aT aW aO tr q ∨ sz ≤ q) s.heap s.heap [] := va_S.rf
  have hl := lv_entry ([.ref mo, .int x]) (n := 4) (Nat.le_of_ble_eq_true rfl)
  rw [lg_entry_eq]
  generalize (lg_sl ([.ref mo, .int x]) ++ List.replicate (4 - (lg_sl ([.ref mo, .int x])).length) Slot.unset).toArray = ls at hl ⊢
  have hl : lv_has ls 4 [(0, .ref mo), (1, .int x)] := hl
  refine lv_aload_n hx hb dX4_bake_0 rfl (lv_at hl 0 rfl) ?_
  refine lv_iconst (v := (nI 0)) hx hb dX4_bake_1 (by decide) ?_
  refine xr_put hx hb hts in_X4 tyX4 tyX4_ok nmX4 hown hE hS (Or.inl (Or.inl (Or.inl rfl))) ((hM).1.1) rfl 0 (by decide) (hts _ q787) (fun _ h => h) rfl (ty := tyX4 0) (by decide) rfl rfl (Nat.le_of_ble_eq_true rfl) dX4_bake_2 (fun H_1 L_2 hO_ hz_3 ho_4 hS => ?_)
  have hO_ : xO E mo 3 [.int (nI 0), .int (nI n), .ref aS, .int (nI m), .ref aT, .int sh, .ref aW, .ref aO] H_1 := hO_
  have hM := hM.put hd hO_ (fun q _ h => ho_4 q h)
  refine lv_iload_n hx hb dX4_bake_5 rfl (lv_at hl 1 rfl) ?_
  refine lv_iconst (v := (nI 1)) hx hb dX4_bake_6 (by decide) ?_
  refine lv_bipush (v := (nI 40)) hx hb dX4_bake_7 (by decide) ?_
  refine xr_ro (va_runS (As := [.int x, .int (nI 1), .int (nI 40)]) (rest := []) ⟨hx, hb, hml, hown, hts⟩ (mt_isIn_f l E (fun q => xMF mo aS aT aW aO tr q ∨ sz ≤ q) x (nI 1) (nI 40) h) (va_cwS 3 hts (lw_S q820 q821 q44 q822) rfl rfl rfl (by decide +kernel) ⟨Nat.le_of_ble_eq_true rfl, Nat.le_of_ble_eq_true rfl⟩) ⟨xPre_blind, fun U hU hW => xPre_at hE hS (fun _ h => h) trivial hU hW⟩ rfl rfl hl.1 rfl (lv_room (Nat.le_of_ble_eq_true rfl)) dX4_bake_9 ⟨(show 0 + 0 ≤ 0 by omega), (show 0 + 0 ≤ 0 by omega)⟩) ?_
  refine xr_zne (tgt := 21) hx hb dX4_bake_12 (by decide) (by omega) (fun c_ => absurd c_ (by omega)) (fun c_ => ?_)
  refine lv_aload_n hx hb dX4_bake_15 rfl (lv_at hl 0 rfl) ?_
  refine lv_iconst (v := (nI 1)) hx hb dX4_bake_16 (by decide) ?_
  refine xr_mu (va_runV (As := [.int (nI 1)]) (rest := []) ⟨hx, hb, hml, hown, hts⟩ (mt_no l E mo aS aT aW aO (nI 0) n m sh 1) (cwV 1 hts (lw_V q823 q825 qs13 q44 q826) rfl rfl rfl (by decide +kernel) ⟨Nat.le_of_ble_eq_true rfl, Nat.le_of_ble_eq_true rfl⟩) ⟨xPre_blind, ((hM).1.1).recv hE rfl, fun U hU hW => xPre_at hE hS (fun q h => Or.inl (Or.inl (Or.inl h))) hM.1.1 hU hW⟩ rfl rfl hl.1 rfl (lv_room (Nat.le_of_ble_eq_true rfl)) dX4_bake_17 ⟨(show 0 + 0 ≤ 0 by omega), (show 0 + 0 ≤ 0 by omega)⟩) hS (fun q h => Or.inl (Or.inl (Or.inl h))) (fun q h => Or.inl (Or.inl (Or.inl h))) (fun vv H_5 L_6 hP_ hz_7 hk_8 hS => ?_)
  obtain ⟨hv_, hO_⟩ := hP_
  subst hv_
  have hM := hM.put hd hO_ (fun q h1 h2 => hk_8 q h1 h2)
  exact W.iret hx hb hr (fun t ht hW => ⟨⟨_, rfl, by rw [ht]; exact ⟨rfl, hM⟩⟩, hS.F ht⟩) hS.2.2 dX4_bake_20

set_option maxHeartbeats 4000000 in
set_option maxRecDepth 100000 in
theorem mt_ice_ok (l : Launch) (E : xG) (mo aS aT aW aO : Nat) (tr : Nat → Nat) (th : Int32) (n : Nat) (so : Nat → Nat) (m : Nat) (ts : Nat → Nat → Nat) (sh : Int32) (ow ot : Nat → Int32) (sz : Nat) (i j : Nat) (hi : i < n) (hj : j < 5) (hn : n ≤ 40) (hm : m ≤ 5) (hd : xMd mo aS aT aW aO tr) (hso : ∀ k, so k < 5) (hts9 : ∀ e k, ts e k ≤ 9) : Met l yX4_ice (ws_ yX4_ice cX4_ice 4 (some .int)) ({ frames := 7, cells := 0, slots := 0, locals := 280 } : Room) (xPre E (fun q => xMF mo aS aT aW aO tr q ∨ sz ≤ q) [.ref mo, .int (nI i), .int (nI j)] (fun H => H.size = sz ∧ xM E mo aS aT aW aO tr th n so m ts sh ow ot H)) (xQ (fun q => xMF mo aS aT aW aO tr q ∨ sz ≤ q) (fun v H => v = .int (nI (so i)) ∧ xM E mo aS aT aW aO tr (nI 0) n (va_up so i j) m ts sh ow ot H)) 0 0 (fun q => xMF mo aS aT aW aO tr q ∨ sz ≤ q) := by
  refine Met.ofW (cc := cX4_ice) (maxL := 4) (ret := (some .int)) (by decide) rfl ?_
  intro P0 e0 s m0 args below meth c0 s₁ B hml hv
  obtain ⟨rfl, hE, hsz, hM⟩ := hv
  have hx := B.exec
  have hb := B.bytes
  have hr := B.returns
  have hts := atoms_spec (ws := ws_ yX4_ice cX4_ice 4 (some .int)) B.pre
  have hts : ∀ w ∈ lw_all, w.before _ s = true := fun w h => hts w (List.mem_cons_of_mem _ h)
  have hown : s.vm.findClass RX4 = some m0.cls := findClass_of_methodNamed B.named
  have hlocks := B.notSynchronized
  have hS : va_S (fun q => xMF mo aS aT aW aO tr q ∨ sz ≤ q) s.heap s.heap [] := va_S.rf
  have hl := lv_entry ([.ref mo, .int (nI i), .int (nI j)]) (n := 4) (Nat.le_of_ble_eq_true rfl)
  rw [lg_entry_eq]
  generalize (lg_sl ([.ref mo, .int (nI i), .int (nI j)]) ++ List.replicate (4 - (lg_sl ([.ref mo, .int (nI i), .int (nI j)])).length) Slot.unset).toArray = ls at hl ⊢
  have hl : lv_has ls 4 [(0, .ref mo), (1, .int (nI i)), (2, .int (nI j))] := hl
  refine lv_aload_n hx hb dX4_ice_0 rfl (lv_at hl 0 rfl) ?_
  refine lv_iconst (v := (nI 0)) hx hb dX4_ice_1 (by decide) ?_
  refine xr_put hx hb hts in_X4 tyX4 tyX4_ok nmX4 hown hE hS (Or.inl (Or.inl (Or.inl rfl))) ((hM).1.1) rfl 0 (by decide) (hts _ q787) (fun _ h => h) rfl (ty := tyX4 0) (by decide) rfl rfl (Nat.le_of_ble_eq_true rfl) dX4_ice_2 (fun H_1 L_2 hO_ hz_3 ho_4 hS => ?_)
  have hO_ : xO E mo 3 [.int (nI 0), .int (nI n), .ref aS, .int (nI m), .ref aT, .int sh, .ref aW, .ref aO] H_1 := hO_
  have hM := hM.put hd hO_ (fun q _ h => ho_4 q h)
  refine lv_aload_n hx hb dX4_ice_5 rfl (lv_at hl 0 rfl) ?_
  refine lv_iload_n hx hb dX4_ice_6 rfl (lv_at hl 1 rfl) ?_
  refine xr_ro (va_runV (As := [.int (nI i)]) (rest := []) ⟨hx, hb, hml, hown, hts⟩ (mt_isSlice_t l E (fun q => xMF mo aS aT aW aO tr q ∨ sz ≤ q) mo aS aT aW aO tr (nI 0) n so m ts sh (nI i) hn hm (vp_in_nI hi (by omega))) (cwV 1 hts (lw_V q831 q833 qs14 q44 q834) rfl rfl rfl (by decide +kernel) ⟨Nat.le_of_ble_eq_true rfl, Nat.le_of_ble_eq_true rfl⟩) ⟨xPre_blind, ((hM).1.1).recv hE rfl, fun U hU hW => xPre_at hE hS (fun _ h => h) hM.1 hU hW⟩ rfl rfl hl.1 rfl (lv_room (Nat.le_of_ble_eq_true rfl)) dX4_ice_7 ⟨(show 0 + 0 ≤ 0 by omega), (show 0 + 0 ≤ 0 by omega)⟩) ?_
  refine xr_zeq (tgt := 20) hx hb dX4_ice_10 (by decide) (by omega) (fun c_ => absurd c_ (by omega)) (fun c_ => ?_)
  refine lv_iload_n hx hb dX4_ice_13 rfl (lv_at hl 2 rfl) ?_
  refine xr_ro (va_runS (As := [.int (nI j)]) (rest := []) ⟨hx, hb, hml, hown, hts⟩ (mt_isSort_t l E (fun q => xMF mo aS aT aW aO tr q ∨ sz ≤ q) (nI j) (vp_in_nI hj (by omega))) (va_cwS 1 hts (lw_S q835 q836 q44 q837) rfl rfl rfl (by decide +kernel) ⟨Nat.le_of_ble_eq_true rfl, Nat.le_of_ble_eq_true rfl⟩) ⟨xPre_blind, fun U hU hW => xPre_at hE hS (fun _ h => h) trivial hU hW⟩ rfl rfl hl.1 rfl (lv_room (Nat.le_of_ble_eq_true rfl)) dX4_ice_14 ⟨(show 0 + 0 ≤ 0 by omega), (show 0 + 0 ≤ 0 by omega)⟩) ?_
  refine xr_zne (tgt := 26) hx hb dX4_ice_17 (by decide) (by omega) (fun c_ => ?_) (fun c_ => absurd c_ (by omega))
  refine lv_aload_n hx hb dX4_ice_26 rfl (lv_at hl 0 rfl) ?_
  refine xr_get hx hb hts in_X4 hown hE ((hM).1.1) rfl 2 (by decide) (hts _ q789) (fun _ h => h) rfl dX4_ice_27 ?_
  refine lv_iload_n hx hb dX4_ice_30 rfl (lv_at hl 1 rfl) ?_
  refine xr_iald hx hb hE ((hM).1.2.1) (i := i) (by omega) (by omega) dX4_ice_31 ?_
  refine lv_istore_n (lv' := [(3, .int (nI (so i))), (0, .ref mo), (1, .int (nI i)), (2, .int (nI j))]) hx hb dX4_ice_32 rfl hl (by decide) rfl (fun ls hl => ?_)
  refine lv_aload_n hx hb dX4_ice_33 rfl (lv_at hl 1 rfl) ?_
  refine xr_get hx hb hts in_X4 hown hE ((hM).1.1) rfl 2 (by decide) (hts _ q789) (fun _ h => h) rfl dX4_ice_34 ?_
  refine lv_iload_n hx hb dX4_ice_37 rfl (lv_at hl 2 rfl) ?_
  refine lv_iload_n hx hb dX4_ice_38 rfl (lv_at hl 3 rfl) ?_
  refine xr_iast hx hb hE hS (Or.inl (Or.inl (Or.inr (Or.inl rfl)))) ((hM).1.2.1) (i := i) (by omega) (by omega) dX4_ice_39 (fun H_5 L_6 hI_ hz_7 ho_8 hS => ?_)
  have hI_ : xI E aS 40 (fun k => nI (va_up so i j k)) H_5 := by rw [← (upd_nI so i j)]; exact hI_
  have hM := hM.setS hd hI_ (fun q _ h => ho_8 q h)
  refine lv_iload_n hx hb dX4_ice_40 rfl (lv_at hl 0 rfl) ?_
  exact W.iret hx hb hr (fun t ht hW => ⟨⟨_, rfl, by rw [ht]; exact ⟨rfl, hM⟩⟩, hS.F ht⟩) hS.2.2 dX4_ice_41

set_option maxHeartbeats 4000000 in
set_option maxRecDepth 100000 in
theorem mt_ice_no (l : Launch) (E : xG) (mo aS aT aW aO : Nat) (tr : Nat → Nat) (th : Int32) (n : Nat) (so : Nat → Nat) (m : Nat) (ts : Nat → Nat → Nat) (sh : Int32) (ow ot : Nat → Int32) (sz : Nat) (x y : Int32) (h : ¬ vp_in x n ∨ ¬ vp_in y 5) (hn : n ≤ 40) (hm : m ≤ 5) (hd : xMd mo aS aT aW aO tr) (hso : ∀ k, so k < 5) (hts9 : ∀ e k, ts e k ≤ 9) : Met l yX4_ice (ws_ yX4_ice cX4_ice 4 (some .int)) ({ frames := 7, cells := 0, slots := 0, locals := 280 } : Room) (xPre E (fun q => xMF mo aS aT aW aO tr q ∨ sz ≤ q) [.ref mo, .int x, .int y] (fun H => H.size = sz ∧ xM E mo aS aT aW aO tr th n so m ts sh ow ot H)) (xQ (fun q => xMF mo aS aT aW aO tr q ∨ sz ≤ q) (fun v H => v = .int (nI 0) ∧ xM E mo aS aT aW aO tr (nI 1) n so m ts sh ow ot H)) 0 0 (fun q => xMF mo aS aT aW aO tr q ∨ sz ≤ q) := by
  refine Met.ofW (cc := cX4_ice) (maxL := 4) (ret := (some .int)) (by decide) rfl ?_
  intro P0 e0 s m0 args below meth c0 s₁ B hml hv
  obtain ⟨rfl, hE, hsz, hM⟩ := hv
  have hx := B.exec
  have hb := B.bytes
  have hr := B.returns
  have hts := atoms_spec (ws := ws_ yX4_ice cX4_ice 4 (some .int)) B.pre
  have hts : ∀ w ∈ lw_all, w.before _ s = true := fun w h => hts w (List.mem_cons_of_mem _ h)
  have hown : s.vm.findClass RX4 = some m0.cls := findClass_of_methodNamed B.named
  have hlocks := B.notSynchronized
  have hS : va_S (fun q => xMF mo aS aT aW aO tr q ∨ sz ≤ q) s.heap s.heap [] := va_S.rf
  have hl := lv_entry ([.ref mo, .int x, .int y]) (n := 4) (Nat.le_of_ble_eq_true rfl)
  rw [lg_entry_eq]
  generalize (lg_sl ([.ref mo, .int x, .int y]) ++ List.replicate (4 - (lg_sl ([.ref mo, .int x, .int y])).length) Slot.unset).toArray = ls at hl ⊢
  have hl : lv_has ls 4 [(0, .ref mo), (1, .int x), (2, .int y)] := hl
  refine lv_aload_n hx hb dX4_ice_0 rfl (lv_at hl 0 rfl) ?_
  refine lv_iconst (v := (nI 0)) hx hb dX4_ice_1 (by decide) ?_
  refine xr_put hx hb hts in_X4 tyX4 tyX4_ok nmX4 hown hE hS (Or.inl (Or.inl (Or.inl rfl))) ((hM).1.1) rfl 0 (by decide) (hts _ q787) (fun _ h => h) rfl (ty := tyX4 0) (by decide) rfl rfl (Nat.le_of_ble_eq_true rfl) dX4_ice_2 (fun H_1 L_2 hO_ hz_3 ho_4 hS => ?_)
  have hO_ : xO E mo 3 [.int (nI 0), .int (nI n), .ref aS, .int (nI m), .ref aT, .int sh, .ref aW, .ref aO] H_1 := hO_
  have hM := hM.put hd hO_ (fun q _ h => ho_4 q h)
  refine lv_aload_n hx hb dX4_ice_5 rfl (lv_at hl 0 rfl) ?_
  refine lv_iload_n hx hb dX4_ice_6 rfl (lv_at hl 1 rfl) ?_
  by_cases h1 : vp_in x n
  · refine xr_ro (va_runV (As := [.int x]) (rest := []) ⟨hx, hb, hml, hown, hts⟩ (mt_isSlice_t l E (fun q => xMF mo aS aT aW aO tr q ∨ sz ≤ q) mo aS aT aW aO tr (nI 0) n so m ts sh x hn hm h1) (cwV 1 hts (lw_V q831 q833 qs14 q44 q834) rfl rfl rfl (by decide +kernel) ⟨Nat.le_of_ble_eq_true rfl, Nat.le_of_ble_eq_true rfl⟩) ⟨xPre_blind, ((hM).1.1).recv hE rfl, fun U hU hW => xPre_at hE hS (fun _ h => h) hM.1 hU hW⟩ rfl rfl hl.1 rfl (lv_room (Nat.le_of_ble_eq_true rfl)) dX4_ice_7 ⟨(show 0 + 0 ≤ 0 by omega), (show 0 + 0 ≤ 0 by omega)⟩) ?_
    refine xr_zeq (tgt := 20) hx hb dX4_ice_10 (by decide) (by omega) (fun c_ => absurd c_ (by omega)) (fun c_ => ?_)
    refine lv_iload_n hx hb dX4_ice_13 rfl (lv_at hl 2 rfl) ?_
    refine xr_ro (va_runS (As := [.int y]) (rest := []) ⟨hx, hb, hml, hown, hts⟩ (mt_isSort_f l E (fun q => xMF mo aS aT aW aO tr q ∨ sz ≤ q) y (h.resolve_left (fun q => q h1))) (va_cwS 1 hts (lw_S q835 q836 q44 q837) rfl rfl rfl (by decide +kernel) ⟨Nat.le_of_ble_eq_true rfl, Nat.le_of_ble_eq_true rfl⟩) ⟨xPre_blind, fun U hU hW => xPre_at hE hS (fun _ h => h) trivial hU hW⟩ rfl rfl hl.1 rfl (lv_room (Nat.le_of_ble_eq_true rfl)) dX4_ice_14 ⟨(show 0 + 0 ≤ 0 by omega), (show 0 + 0 ≤ 0 by omega)⟩) ?_
    refine xr_zne (tgt := 26) hx hb dX4_ice_17 (by decide) (by omega) (fun c_ => absurd c_ (by omega)) (fun c_ => ?_)
    refine lv_aload_n hx hb dX4_ice_20 rfl (lv_at hl 0 rfl) ?_
    refine lv_iconst (v := (nI 1)) hx hb dX4_ice_21 (by decide) ?_
    refine xr_mu (va_runV (As := [.int (nI 1)]) (rest := []) ⟨hx, hb, hml, hown, hts⟩ (mt_no l E mo aS aT aW aO (nI 0) n m sh 1) (cwV 1 hts (lw_V q823 q825 qs13 q44 q826) rfl rfl rfl (by decide +kernel) ⟨Nat.le_of_ble_eq_true rfl, Nat.le_of_ble_eq_true rfl⟩) ⟨xPre_blind, ((hM).1.1).recv hE rfl, fun U hU hW => xPre_at hE hS (fun q h => Or.inl (Or.inl (Or.inl h))) hM.1.1 hU hW⟩ rfl rfl hl.1 rfl (lv_room (Nat.le_of_ble_eq_true rfl)) dX4_ice_22 ⟨(show 0 + 0 ≤ 0 by omega), (show 0 + 0 ≤ 0 by omega)⟩) hS (fun q h => Or.inl (Or.inl (Or.inl h))) (fun q h => Or.inl (Or.inl (Or.inl h))) (fun vv H_5 L_6 hP_ hz_7 hk_8 hS => ?_)
    obtain ⟨hv_, hO_⟩ := hP_
    subst hv_
    have hM := hM.put hd hO_ (fun q h1 h2 => hk_8 q h1 h2)
    exact W.iret hx hb hr (fun t ht hW => ⟨⟨_, rfl, by rw [ht]; exact ⟨rfl, hM⟩⟩, hS.F ht⟩) hS.2.2 dX4_ice_25
  · refine xr_ro (va_runV (As := [.int x]) (rest := []) ⟨hx, hb, hml, hown, hts⟩ (mt_isSlice_f l E (fun q => xMF mo aS aT aW aO tr q ∨ sz ≤ q) mo aS aT aW aO tr (nI 0) n so m ts sh x hn hm h1) (cwV 1 hts (lw_V q831 q833 qs14 q44 q834) rfl rfl rfl (by decide +kernel) ⟨Nat.le_of_ble_eq_true rfl, Nat.le_of_ble_eq_true rfl⟩) ⟨xPre_blind, ((hM).1.1).recv hE rfl, fun U hU hW => xPre_at hE hS (fun _ h => h) hM.1 hU hW⟩ rfl rfl hl.1 rfl (lv_room (Nat.le_of_ble_eq_true rfl)) dX4_ice_7 ⟨(show 0 + 0 ≤ 0 by omega), (show 0 + 0 ≤ 0 by omega)⟩) ?_
    refine xr_zeq (tgt := 20) hx hb dX4_ice_10 (by decide) (by omega) (fun c_ => ?_) (fun c_ => absurd c_ (by omega))
    refine lv_aload_n hx hb dX4_ice_20 rfl (lv_at hl 0 rfl) ?_
    refine lv_iconst (v := (nI 1)) hx hb dX4_ice_21 (by decide) ?_
    refine xr_mu (va_runV (As := [.int (nI 1)]) (rest := []) ⟨hx, hb, hml, hown, hts⟩ (mt_no l E mo aS aT aW aO (nI 0) n m sh 1) (cwV 1 hts (lw_V q823 q825 qs13 q44 q826) rfl rfl rfl (by decide +kernel) ⟨Nat.le_of_ble_eq_true rfl, Nat.le_of_ble_eq_true rfl⟩) ⟨xPre_blind, ((hM).1.1).recv hE rfl, fun U hU hW => xPre_at hE hS (fun q h => Or.inl (Or.inl (Or.inl h))) hM.1.1 hU hW⟩ rfl rfl hl.1 rfl (lv_room (Nat.le_of_ble_eq_true rfl)) dX4_ice_22 ⟨(show 0 + 0 ≤ 0 by omega), (show 0 + 0 ≤ 0 by omega)⟩) hS (fun q h => Or.inl (Or.inl (Or.inl h))) (fun q h => Or.inl (Or.inl (Or.inl h))) (fun vv H_9 L_10 hP_ hz_11 hk_12 hS => ?_)
    obtain ⟨hv_, hO_⟩ := hP_
    subst hv_
    have hM := hM.put hd hO_ (fun q h1 h2 => hk_12 q h1 h2)
    exact W.iret hx hb hr (fun t ht hW => ⟨⟨_, rfl, by rw [ht]; exact ⟨rfl, hM⟩⟩, hS.F ht⟩) hS.2.2 dX4_ice_25

set_option maxHeartbeats 4000000 in
set_option maxRecDepth 100000 in
theorem mt_come_ok (l : Launch) (E : xG) (mo aS aT aW aO : Nat) (tr : Nat → Nat) (th : Int32) (n : Nat) (so : Nat → Nat) (m : Nat) (ts : Nat → Nat → Nat) (sh : Int32) (ow ot : Nat → Int32) (sz : Nat) (hm4 : m < 5) (hn : n ≤ 40) (hm : m ≤ 5) (hd : xMd mo aS aT aW aO tr) (hso : ∀ k, so k < 5) (hts9 : ∀ e k, ts e k ≤ 9) : Met l yX4_come (ws_ yX4_come cX4_come 2 (some .int)) ({ frames := 7, cells := 0, slots := 0, locals := 280 } : Room) (xPre E (fun q => xMF mo aS aT aW aO tr q ∨ sz ≤ q) [.ref mo] (fun H => H.size = sz ∧ xM E mo aS aT aW aO tr th n so m ts sh ow ot H)) (xQ (fun q => xMF mo aS aT aW aO tr q ∨ sz ≤ q) (fun v H => v = .int (nI m) ∧ ∃ ts', xM E mo aS aT aW aO tr (nI 0) n so (m + 1) ts' sh ow ot H ∧ (∀ e j, e = m → j < 5 → ts' e j = 1) ∧ ∀ e j, e ≠ m → ts' e j = ts e j)) 0 0 (fun q => xMF mo aS aT aW aO tr q ∨ sz ≤ q) := by
  refine Met.ofW (cc := cX4_come) (maxL := 2) (ret := (some .int)) (by decide) rfl ?_
  intro P0 e0 s m0 args below meth c0 s₁ B hml hv
  obtain ⟨rfl, hE, hsz, hM⟩ := hv
  have hx := B.exec
  have hb := B.bytes
  have hr := B.returns
  have hts := atoms_spec (ws := ws_ yX4_come cX4_come 2 (some .int)) B.pre
  have hts : ∀ w ∈ lw_all, w.before _ s = true := fun w h => hts w (List.mem_cons_of_mem _ h)
  have hown : s.vm.findClass RX4 = some m0.cls := findClass_of_methodNamed B.named
  have hlocks := B.notSynchronized
  have hS : va_S (fun q => xMF mo aS aT aW aO tr q ∨ sz ≤ q) s.heap s.heap [] := va_S.rf
  have hl := lv_entry ([.ref mo]) (n := 2) (Nat.le_of_ble_eq_true rfl)
  rw [lg_entry_eq]
  generalize (lg_sl ([.ref mo]) ++ List.replicate (2 - (lg_sl ([.ref mo])).length) Slot.unset).toArray = ls at hl ⊢
  have hl : lv_has ls 2 [(0, .ref mo)] := hl
  refine lv_aload_n hx hb dX4_come_0 rfl (lv_at hl 0 rfl) ?_
  refine lv_iconst (v := (nI 0)) hx hb dX4_come_1 (by decide) ?_
  refine xr_put hx hb hts in_X4 tyX4 tyX4_ok nmX4 hown hE hS (Or.inl (Or.inl (Or.inl rfl))) ((hM).1.1) rfl 0 (by decide) (hts _ q787) (fun _ h => h) rfl (ty := tyX4 0) (by decide) rfl rfl (Nat.le_of_ble_eq_true rfl) dX4_come_2 (fun H_1 L_2 hO_ hz_3 ho_4 hS => ?_)
  have hO_ : xO E mo 3 [.int (nI 0), .int (nI n), .ref aS, .int (nI m), .ref aT, .int sh, .ref aW, .ref aO] H_1 := hO_
  have hM := hM.put hd hO_ (fun q _ h => ho_4 q h)
  refine lv_aload_n hx hb dX4_come_5 rfl (lv_at hl 0 rfl) ?_
  refine xr_get hx hb hts in_X4 hown hE ((hM).1.1) rfl 3 (by decide) (hts _ q790) (fun _ h => h) rfl dX4_come_6 ?_
  refine lv_iconst (v := (nI 5)) hx hb dX4_come_9 (by decide) ?_
  refine xr_cne (tgt := 19) hx hb dX4_come_10 (by decide) (by omega) (by omega) (fun c_ => ?_) (fun c_ => absurd c_ (by omega))
  refine lv_iconst (v := (nI 0)) hx hb dX4_come_19 (by decide) ?_
  refine lv_istore_n (lv' := [(1, .int (nI 0)), (0, .ref mo)]) hx hb dX4_come_20 rfl hl (by decide) rfl (fun ls hl => ?_)
  have lp : ∀ (nn : Nat) (k : Nat), (k ≤ 5) → (5 - k) < nn → ∀ (H : Heap) (locs : List Loc), (True ∧ xM E mo aS aT aW aO tr (nI 0) n so m (fun e j => if e = m ∧ j < k then 1 else ts e j) sh ow ot H) → va_S (fun q => xMF mo aS aT aW aO tr q ∨ sz ≤ q) s.heap H locs → ∀ (ls : Array Slot), lv_has ls 2 [(0, .ref mo), (1, .int (nI k))] → W P0 l e0 (headSpec (ws_ yX4_come cX4_come 2 (some .int)) ({ frames := 7, cells := 0, slots := 0, locals := 280 } : Room)).room s m0 ([.ref mo] : List Value).toArray below meth c0 H locs 0 0 (MQ below (xQ (fun q => xMF mo aS aT aW aO tr q ∨ sz ≤ q) (fun v H => v = .int (nI m) ∧ ∃ ts', xM E mo aS aT aW aO tr (nI 0) n so (m + 1) ts' sh ow ot H ∧ (∀ e j, e = m → j < 5 → ts' e j = 1) ∧ ∀ e j, e ≠ m → ts' e j = ts e j)) ([.ref mo] : List Value).toArray s 0 0 (fun q => xMF mo aS aT aW aO tr q ∨ sz ≤ q)) (F0 m0 21 ls []) := by
    intro nn
    induction nn with
    | zero =>
      intro k hk1 hnn
      exact absurd hnn (Nat.not_lt_zero _)
    | succ nn ih =>
      intro k hk1 hnn H locs hM hS ls hl
      have hM := hM.2
      refine lv_iload_n hx hb dX4_come_21 rfl (lv_at hl 1 rfl) ?_
      refine lv_iconst (v := (nI 5)) hx hb dX4_come_22 (by decide) ?_
      refine xr_cge (tgt := 44) hx hb dX4_come_23 (by decide) (by omega) (by omega) (fun c_5 => ?_) (fun c_5 => ?_)
      · obtain rfl : 5 = k := by omega
        refine lv_aload_n hx hb dX4_come_44 rfl (lv_at hl 0 rfl) ?_
        refine lv_dup hx hb dX4_come_45 rfl ?_
        refine xr_get hx hb hts in_X4 hown hE ((hM).1.1) rfl 3 (by decide) (hts _ q790) (fun _ h => h) rfl dX4_come_46 ?_
        refine lv_iconst (v := (nI 1)) hx hb dX4_come_49 (by decide) ?_
        refine xr_iadd hx hb dX4_come_50 ?_
        refine xr_put hx hb hts in_X4 tyX4 tyX4_ok nmX4 hown hE hS (Or.inl (Or.inl (Or.inl rfl))) ((hM).1.1) rfl 3 (by decide) (hts _ q790) (fun _ h => h) rfl (ty := tyX4 3) (by decide) rfl rfl (Nat.le_of_ble_eq_true rfl) dX4_come_51 (fun H_6 L_7 hO_ hz_8 ho_9 hS => ?_)
        have hO_ : xO E mo 3 [.int (nI 0), .int (nI n), .ref aS, .int (nI (m + 1)), .ref aT, .int sh, .ref aW, .ref aO] H_6 := hO_
        have hM := hM.put hd hO_ (fun q _ h => ho_9 q h)
        refine lv_aload_n hx hb dX4_come_54 rfl (lv_at hl 0 rfl) ?_
        refine xr_get hx hb hts in_X4 hown hE ((hM).1.1) rfl 3 (by decide) (hts _ q790) (fun _ h => h) rfl dX4_come_55 ?_
        refine lv_iconst (v := (nI 1)) hx hb dX4_come_58 (by decide) ?_
        refine xr_isub hx hb (by omega) dX4_come_59 ?_
        refine xr_ti (x := (nI ((m + 1) - 1))) (y := (nI m)) (by rw [Nat.add_sub_cancel]) ?_
        exact W.iret hx hb hr (fun t ht hW => ⟨⟨_, rfl, by rw [ht]; exact ⟨rfl, _, hM, fun e j he hj => if_pos ⟨he, hj⟩, fun e j he => if_neg (fun q => he q.1)⟩⟩, hS.F ht⟩) hS.2.2 dX4_come_60
      · refine lv_aload_n hx hb dX4_come_26 rfl (lv_at hl 0 rfl) ?_
        refine xr_get hx hb hts in_X4 hown hE ((hM).1.1) rfl 4 (by decide) (hts _ q791) (fun _ h => h) rfl dX4_come_27 ?_
        refine lv_aload_n hx hb dX4_come_30 rfl (lv_at hl 0 rfl) ?_
        refine xr_get hx hb hts in_X4 hown hE ((hM).1.1) rfl 3 (by decide) (hts _ q790) (fun _ h => h) rfl dX4_come_31 ?_
        refine xr_aald hx hb hE 5 rfl rfl ((hM).1.2.2.1) (i := m) (by omega) (by omega) (v := .ref (tr m)) rfl dX4_come_34 ?_
        refine lv_iload_n hx hb dX4_come_35 rfl (lv_at hl 1 rfl) ?_
        refine lv_iconst (v := (nI 1)) hx hb dX4_come_36 (by decide) ?_
        refine xr_iast hx hb hE hS (Or.inl (Or.inl (Or.inr (Or.inr (Or.inr ⟨m, by omega, rfl⟩))))) (hM.1.2.2.2 m (by omega)) (i := k) (by omega) (by omega) dX4_come_37 (fun H_10 L_11 hI_ hz_12 ho_13 hS => ?_)
        have hI_ : xI E (tr m) 5 (fun j => nI ((fun e j => if e = m ∧ j < k + 1 then 1 else ts e j) m j)) H_10 := by rw [← (cm_s ts m k)]; exact hI_
        have hM := hM.setT hd (i := m) (by omega) (ts' := fun e j => if e = m ∧ j < k + 1 then 1 else ts e j) hI_ (fun e he => by funext j; simp [he]) (fun q _ h => ho_13 q h)
        refine lv_iinc (v := (nI (k + 1))) (lv' := [(1, .int (nI (k + 1))), (0, .ref mo)]) hx hb dX4_come_38 hl (k := 1) rfl (nI_add k 1) (by decide) rfl (fun ls hl => ?_)
        refine lv_goto (tgt := 21) hx hb dX4_come_41 (by decide) ?_
        exact ih (k + 1) (by omega) (by omega) _ _ (⟨trivial, hM⟩) hS ls (lv_sub hl [1, 0] rfl)
  exact lp (5 + 1) 0 (by omega) (by omega) _ _ (⟨trivial, by simpa using hM⟩) hS ls (lv_sub hl [1, 0] rfl)

set_option maxHeartbeats 4000000 in
set_option maxRecDepth 100000 in
theorem mt_come_no (l : Launch) (E : xG) (mo aS aT aW aO : Nat) (tr : Nat → Nat) (th : Int32) (n : Nat) (so : Nat → Nat) (m : Nat) (ts : Nat → Nat → Nat) (sh : Int32) (ow ot : Nat → Int32) (sz : Nat) (hm5 : m = 5) (hn : n ≤ 40) (hm : m ≤ 5) (hd : xMd mo aS aT aW aO tr) (hso : ∀ k, so k < 5) (hts9 : ∀ e k, ts e k ≤ 9) : Met l yX4_come (ws_ yX4_come cX4_come 2 (some .int)) ({ frames := 7, cells := 0, slots := 0, locals := 280 } : Room) (xPre E (fun q => xMF mo aS aT aW aO tr q ∨ sz ≤ q) [.ref mo] (fun H => H.size = sz ∧ xM E mo aS aT aW aO tr th n so m ts sh ow ot H)) (xQ (fun q => xMF mo aS aT aW aO tr q ∨ sz ≤ q) (fun v H => v = .int (nI 0) ∧ xM E mo aS aT aW aO tr (nI 1) n so m ts sh ow ot H)) 0 0 (fun q => xMF mo aS aT aW aO tr q ∨ sz ≤ q) := by
  refine Met.ofW (cc := cX4_come) (maxL := 2) (ret := (some .int)) (by decide) rfl ?_
  intro P0 e0 s m0 args below meth c0 s₁ B hml hv
  obtain ⟨rfl, hE, hsz, hM⟩ := hv
  have hx := B.exec
  have hb := B.bytes
  have hr := B.returns
  have hts := atoms_spec (ws := ws_ yX4_come cX4_come 2 (some .int)) B.pre
  have hts : ∀ w ∈ lw_all, w.before _ s = true := fun w h => hts w (List.mem_cons_of_mem _ h)
  have hown : s.vm.findClass RX4 = some m0.cls := findClass_of_methodNamed B.named
  have hlocks := B.notSynchronized
  have hS : va_S (fun q => xMF mo aS aT aW aO tr q ∨ sz ≤ q) s.heap s.heap [] := va_S.rf
  have hl := lv_entry ([.ref mo]) (n := 2) (Nat.le_of_ble_eq_true rfl)
  rw [lg_entry_eq]
  generalize (lg_sl ([.ref mo]) ++ List.replicate (2 - (lg_sl ([.ref mo])).length) Slot.unset).toArray = ls at hl ⊢
  have hl : lv_has ls 2 [(0, .ref mo)] := hl
  refine lv_aload_n hx hb dX4_come_0 rfl (lv_at hl 0 rfl) ?_
  refine lv_iconst (v := (nI 0)) hx hb dX4_come_1 (by decide) ?_
  refine xr_put hx hb hts in_X4 tyX4 tyX4_ok nmX4 hown hE hS (Or.inl (Or.inl (Or.inl rfl))) ((hM).1.1) rfl 0 (by decide) (hts _ q787) (fun _ h => h) rfl (ty := tyX4 0) (by decide) rfl rfl (Nat.le_of_ble_eq_true rfl) dX4_come_2 (fun H_1 L_2 hO_ hz_3 ho_4 hS => ?_)
  have hO_ : xO E mo 3 [.int (nI 0), .int (nI n), .ref aS, .int (nI m), .ref aT, .int sh, .ref aW, .ref aO] H_1 := hO_
  have hM := hM.put hd hO_ (fun q _ h => ho_4 q h)
  refine lv_aload_n hx hb dX4_come_5 rfl (lv_at hl 0 rfl) ?_
  refine xr_get hx hb hts in_X4 hown hE ((hM).1.1) rfl 3 (by decide) (hts _ q790) (fun _ h => h) rfl dX4_come_6 ?_
  refine lv_iconst (v := (nI 5)) hx hb dX4_come_9 (by decide) ?_
  refine xr_cne (tgt := 19) hx hb dX4_come_10 (by decide) (by omega) (by omega) (fun c_ => absurd hm5 c_) (fun c_ => ?_)
  refine lv_aload_n hx hb dX4_come_13 rfl (lv_at hl 0 rfl) ?_
  refine lv_iconst (v := (nI 1)) hx hb dX4_come_14 (by decide) ?_
  refine xr_mu (va_runV (As := [.int (nI 1)]) (rest := []) ⟨hx, hb, hml, hown, hts⟩ (mt_no l E mo aS aT aW aO (nI 0) n m sh 1) (cwV 1 hts (lw_V q823 q825 qs13 q44 q826) rfl rfl rfl (by decide +kernel) ⟨Nat.le_of_ble_eq_true rfl, Nat.le_of_ble_eq_true rfl⟩) ⟨xPre_blind, ((hM).1.1).recv hE rfl, fun U hU hW => xPre_at hE hS (fun q h => Or.inl (Or.inl (Or.inl h))) hM.1.1 hU hW⟩ rfl rfl hl.1 rfl (lv_room (Nat.le_of_ble_eq_true rfl)) dX4_come_15 ⟨(show 0 + 0 ≤ 0 by omega), (show 0 + 0 ≤ 0 by omega)⟩) hS (fun q h => Or.inl (Or.inl (Or.inl h))) (fun q h => Or.inl (Or.inl (Or.inl h))) (fun vv H_5 L_6 hP_ hz_7 hk_8 hS => ?_)
  obtain ⟨hv_, hO_⟩ := hP_
  subst hv_
  have hM := hM.put hd hO_ (fun q h1 h2 => hk_8 q h1 h2)
  exact W.iret hx hb hr (fun t ht hW => ⟨⟨_, rfl, by rw [ht]; exact ⟨rfl, hM⟩⟩, hS.F ht⟩) hS.2.2 dX4_come_18

set_option maxHeartbeats 4000000 in
set_option maxRecDepth 100000 in
theorem mt_setTaste_ok (l : Launch) (E : xG) (mo aS aT aW aO : Nat) (tr : Nat → Nat) (th : Int32) (n : Nat) (so : Nat → Nat) (m : Nat) (ts : Nat → Nat → Nat) (sh : Int32) (ow ot : Nat → Int32) (sz : Nat) (e j v : Nat) (he : e < m) (hj : j < 5) (hv : v ≤ 9) (hn : n ≤ 40) (hm : m ≤ 5) (hd : xMd mo aS aT aW aO tr) (hso : ∀ k, so k < 5) (hts9 : ∀ e k, ts e k ≤ 9) : Met l yX4_setTaste (ws_ yX4_setTaste cX4_setTaste 5 (some .int)) ({ frames := 7, cells := 0, slots := 0, locals := 280 } : Room) (xPre E (fun q => xMF mo aS aT aW aO tr q ∨ sz ≤ q) [.ref mo, .int (nI e), .int (nI j), .int (nI v)] (fun H => H.size = sz ∧ xM E mo aS aT aW aO tr th n so m ts sh ow ot H)) (xQ (fun q => xMF mo aS aT aW aO tr q ∨ sz ≤ q) (fun v_ H => v_ = .int (nI (ts e j)) ∧ xM E mo aS aT aW aO tr (nI 0) n so m (va_up ts e (va_up (ts e) j v)) sh ow ot H)) 0 0 (fun q => xMF mo aS aT aW aO tr q ∨ sz ≤ q) := by
  refine Met.ofW (cc := cX4_setTaste) (maxL := 5) (ret := (some .int)) (by decide) rfl ?_
  intro P0 e0 s m0 args below meth c0 s₁ B hml hv
  obtain ⟨rfl, hE, hsz, hM⟩ := hv
  have hx := B.exec
  have hb := B.bytes
  have hr := B.returns
  have hts := atoms_spec (ws := ws_ yX4_setTaste cX4_setTaste 5 (some .int)) B.pre
  have hts : ∀ w ∈ lw_all, w.before _ s = true := fun w h => hts w (List.mem_cons_of_mem _ h)
  have hown : s.vm.findClass RX4 = some m0.cls := findClass_of_methodNamed B.named
  have hlocks := B.notSynchronized
  have hS : va_S (fun q => xMF mo aS aT aW aO tr q ∨ sz ≤ q) s.heap s.heap [] := va_S.rf
  have hl := lv_entry ([.ref mo, .int (nI e), .int (nI j), .int (nI v)]) (n := 5) (Nat.le_of_ble_eq_true rfl)
  rw [lg_entry_eq]
  generalize (lg_sl ([.ref mo, .int (nI e), .int (nI j), .int (nI v)]) ++ List.replicate (5 - (lg_sl ([.ref mo, .int (nI e), .int (nI j), .int (nI v)])).length) Slot.unset).toArray = ls at hl ⊢
  have hl : lv_has ls 5 [(0, .ref mo), (1, .int (nI e)), (2, .int (nI j)), (3, .int (nI v))] := hl
  refine lv_aload_n hx hb dX4_setTaste_0 rfl (lv_at hl 0 rfl) ?_
  refine lv_iconst (v := (nI 0)) hx hb dX4_setTaste_1 (by decide) ?_
  refine xr_put hx hb hts in_X4 tyX4 tyX4_ok nmX4 hown hE hS (Or.inl (Or.inl (Or.inl rfl))) ((hM).1.1) rfl 0 (by decide) (hts _ q787) (fun _ h => h) rfl (ty := tyX4 0) (by decide) rfl rfl (Nat.le_of_ble_eq_true rfl) dX4_setTaste_2 (fun H_1 L_2 hO_ hz_3 ho_4 hS => ?_)
  have hO_ : xO E mo 3 [.int (nI 0), .int (nI n), .ref aS, .int (nI m), .ref aT, .int sh, .ref aW, .ref aO] H_1 := hO_
  have hM := hM.put hd hO_ (fun q _ h => ho_4 q h)
  refine lv_aload_n hx hb dX4_setTaste_5 rfl (lv_at hl 0 rfl) ?_
  refine lv_iload_n hx hb dX4_setTaste_6 rfl (lv_at hl 1 rfl) ?_
  refine xr_ro (va_runV (As := [.int (nI e)]) (rest := []) ⟨hx, hb, hml, hown, hts⟩ (mt_isEater_t l E (fun q => xMF mo aS aT aW aO tr q ∨ sz ≤ q) mo aS aT aW aO tr (nI 0) n so m ts sh (nI e) hn hm (vp_in_nI he (by omega))) (cwV 1 hts (lw_V q846 q848 qs15 q44 q849) rfl rfl rfl (by decide +kernel) ⟨Nat.le_of_ble_eq_true rfl, Nat.le_of_ble_eq_true rfl⟩) ⟨xPre_blind, ((hM).1.1).recv hE rfl, fun U hU hW => xPre_at hE hS (fun _ h => h) hM.1 hU hW⟩ rfl rfl hl.1 rfl (lv_room (Nat.le_of_ble_eq_true rfl)) dX4_setTaste_7 ⟨(show 0 + 0 ≤ 0 by omega), (show 0 + 0 ≤ 0 by omega)⟩) ?_
  refine xr_zeq (tgt := 20) hx hb dX4_setTaste_10 (by decide) (by omega) (fun c_ => absurd c_ (by omega)) (fun c_ => ?_)
  refine lv_iload_n hx hb dX4_setTaste_13 rfl (lv_at hl 2 rfl) ?_
  refine xr_ro (va_runS (As := [.int (nI j)]) (rest := []) ⟨hx, hb, hml, hown, hts⟩ (mt_isSort_t l E (fun q => xMF mo aS aT aW aO tr q ∨ sz ≤ q) (nI j) (vp_in_nI hj (by omega))) (va_cwS 1 hts (lw_S q835 q836 q44 q837) rfl rfl rfl (by decide +kernel) ⟨Nat.le_of_ble_eq_true rfl, Nat.le_of_ble_eq_true rfl⟩) ⟨xPre_blind, fun U hU hW => xPre_at hE hS (fun _ h => h) trivial hU hW⟩ rfl rfl hl.1 rfl (lv_room (Nat.le_of_ble_eq_true rfl)) dX4_setTaste_14 ⟨(show 0 + 0 ≤ 0 by omega), (show 0 + 0 ≤ 0 by omega)⟩) ?_
  refine xr_zne (tgt := 26) hx hb dX4_setTaste_17 (by decide) (by omega) (fun c_ => ?_) (fun c_ => absurd c_ (by omega))
  refine lv_iload_n hx hb dX4_setTaste_26 rfl (lv_at hl 3 rfl) ?_
  refine lv_iconst (v := (nI 0)) hx hb dX4_setTaste_27 (by decide) ?_
  refine lv_bipush (v := (nI 9)) hx hb dX4_setTaste_28 (by decide) ?_
  refine xr_ro (va_runS (As := [.int (nI v), .int (nI 0), .int (nI 9)]) (rest := []) ⟨hx, hb, hml, hown, hts⟩ (mt_isIn_t l E (fun q => xMF mo aS aT aW aO tr q ∨ sz ≤ q) (nI v) (nI 0) (nI 9) (nI_le (Nat.zero_le _) (by omega)) (nI_le hv (by omega))) (va_cwS 3 hts (lw_S q820 q821 q44 q822) rfl rfl rfl (by decide +kernel) ⟨Nat.le_of_ble_eq_true rfl, Nat.le_of_ble_eq_true rfl⟩) ⟨xPre_blind, fun U hU hW => xPre_at hE hS (fun _ h => h) trivial hU hW⟩ rfl rfl hl.1 rfl (lv_room (Nat.le_of_ble_eq_true rfl)) dX4_setTaste_30 ⟨(show 0 + 0 ≤ 0 by omega), (show 0 + 0 ≤ 0 by omega)⟩) ?_
  refine xr_zne (tgt := 42) hx hb dX4_setTaste_33 (by decide) (by omega) (fun c_ => ?_) (fun c_ => absurd c_ (by omega))
  refine lv_aload_n hx hb dX4_setTaste_42 rfl (lv_at hl 0 rfl) ?_
  refine xr_get hx hb hts in_X4 hown hE ((hM).1.1) rfl 4 (by decide) (hts _ q791) (fun _ h => h) rfl dX4_setTaste_43 ?_
  refine lv_iload_n hx hb dX4_setTaste_46 rfl (lv_at hl 1 rfl) ?_
  refine xr_aald hx hb hE 5 rfl rfl ((hM).1.2.2.1) (i := e) (by omega) (by omega) (v := .ref (tr e)) rfl dX4_setTaste_47 ?_
  refine lv_iload_n hx hb dX4_setTaste_48 rfl (lv_at hl 2 rfl) ?_
  refine xr_iald hx hb hE (hM.1.2.2.2 e (by omega)) (i := j) hj (by omega) dX4_setTaste_49 ?_
  refine lv_istore (lv' := [(4, .int (nI (ts e j))), (0, .ref mo), (1, .int (nI e)), (2, .int (nI j)), (3, .int (nI v))]) hx hb dX4_setTaste_50 hl (by decide) rfl (fun ls hl => ?_)
  refine lv_aload_n hx hb dX4_setTaste_52 rfl (lv_at hl 1 rfl) ?_
  refine xr_get hx hb hts in_X4 hown hE ((hM).1.1) rfl 4 (by decide) (hts _ q791) (fun _ h => h) rfl dX4_setTaste_53 ?_
  refine lv_iload_n hx hb dX4_setTaste_56 rfl (lv_at hl 2 rfl) ?_
  refine xr_aald hx hb hE 5 rfl rfl ((hM).1.2.2.1) (i := e) (by omega) (by omega) (v := .ref (tr e)) rfl dX4_setTaste_57 ?_
  refine lv_iload_n hx hb dX4_setTaste_58 rfl (lv_at hl 3 rfl) ?_
  refine lv_iload_n hx hb dX4_setTaste_59 rfl (lv_at hl 4 rfl) ?_
  refine xr_iast hx hb hE hS (Or.inl (Or.inl (Or.inr (Or.inr (Or.inr ⟨e, by omega, rfl⟩))))) (hM.1.2.2.2 e (by omega)) (i := j) hj (by omega) dX4_setTaste_60 (fun H_5 L_6 hI_ hz_7 ho_8 hS => ?_)
  have hI_ : xI E (tr e) 5 (fun k => nI (va_up ts e (va_up (ts e) j v) e k)) H_5 := by rw [← (st_s ts e j v)]; exact hI_
  have hM := hM.setT hd (i := e) (by omega) (ts' := va_up ts e (va_up (ts e) j v)) hI_ (fun z hz => va_up_ne _ _ hz) (fun q _ h => ho_8 q h)
  refine lv_iload hx hb dX4_setTaste_61 (lv_at hl 0 rfl) ?_
  exact W.iret hx hb hr (fun t ht hW => ⟨⟨_, rfl, by rw [ht]; exact ⟨rfl, hM⟩⟩, hS.F ht⟩) hS.2.2 dX4_setTaste_63

set_option maxHeartbeats 4000000 in
set_option maxRecDepth 100000 in
theorem mt_setTaste_no (l : Launch) (E : xG) (mo aS aT aW aO : Nat) (tr : Nat → Nat) (th : Int32) (n : Nat) (so : Nat → Nat) (m : Nat) (ts : Nat → Nat → Nat) (sh : Int32) (ow ot : Nat → Int32) (sz : Nat) (x y z : Int32) (h : ¬ vp_in x m ∨ ¬ vp_in y 5) (hn : n ≤ 40) (hm : m ≤ 5) (hd : xMd mo aS aT aW aO tr) (hso : ∀ k, so k < 5) (hts9 : ∀ e k, ts e k ≤ 9) : Met l yX4_setTaste (ws_ yX4_setTaste cX4_setTaste 5 (some .int)) ({ frames := 7, cells := 0, slots := 0, locals := 280 } : Room) (xPre E (fun q => xMF mo aS aT aW aO tr q ∨ sz ≤ q) [.ref mo, .int x, .int y, .int z] (fun H => H.size = sz ∧ xM E mo aS aT aW aO tr th n so m ts sh ow ot H)) (xQ (fun q => xMF mo aS aT aW aO tr q ∨ sz ≤ q) (fun v H => v = .int (nI 0) ∧ xM E mo aS aT aW aO tr (nI 1) n so m ts sh ow ot H)) 0 0 (fun q => xMF mo aS aT aW aO tr q ∨ sz ≤ q) := by
  refine Met.ofW (cc := cX4_setTaste) (maxL := 5) (ret := (some .int)) (by decide) rfl ?_
  intro P0 e0 s m0 args below meth c0 s₁ B hml hv
  obtain ⟨rfl, hE, hsz, hM⟩ := hv
  have hx := B.exec
  have hb := B.bytes
  have hr := B.returns
  have hts := atoms_spec (ws := ws_ yX4_setTaste cX4_setTaste 5 (some .int)) B.pre
  have hts : ∀ w ∈ lw_all, w.before _ s = true := fun w h => hts w (List.mem_cons_of_mem _ h)
  have hown : s.vm.findClass RX4 = some m0.cls := findClass_of_methodNamed B.named
  have hlocks := B.notSynchronized
  have hS : va_S (fun q => xMF mo aS aT aW aO tr q ∨ sz ≤ q) s.heap s.heap [] := va_S.rf
  have hl := lv_entry ([.ref mo, .int x, .int y, .int z]) (n := 5) (Nat.le_of_ble_eq_true rfl)
  rw [lg_entry_eq]
  generalize (lg_sl ([.ref mo, .int x, .int y, .int z]) ++ List.replicate (5 - (lg_sl ([.ref mo, .int x, .int y, .int z])).length) Slot.unset).toArray = ls at hl ⊢
  have hl : lv_has ls 5 [(0, .ref mo), (1, .int x), (2, .int y), (3, .int z)] := hl
  refine lv_aload_n hx hb dX4_setTaste_0 rfl (lv_at hl 0 rfl) ?_
  refine lv_iconst (v := (nI 0)) hx hb dX4_setTaste_1 (by decide) ?_
  refine xr_put hx hb hts in_X4 tyX4 tyX4_ok nmX4 hown hE hS (Or.inl (Or.inl (Or.inl rfl))) ((hM).1.1) rfl 0 (by decide) (hts _ q787) (fun _ h => h) rfl (ty := tyX4 0) (by decide) rfl rfl (Nat.le_of_ble_eq_true rfl) dX4_setTaste_2 (fun H_1 L_2 hO_ hz_3 ho_4 hS => ?_)
  have hO_ : xO E mo 3 [.int (nI 0), .int (nI n), .ref aS, .int (nI m), .ref aT, .int sh, .ref aW, .ref aO] H_1 := hO_
  have hM := hM.put hd hO_ (fun q _ h => ho_4 q h)
  refine lv_aload_n hx hb dX4_setTaste_5 rfl (lv_at hl 0 rfl) ?_
  refine lv_iload_n hx hb dX4_setTaste_6 rfl (lv_at hl 1 rfl) ?_
  by_cases h1 : vp_in x m
  · refine xr_ro (va_runV (As := [.int x]) (rest := []) ⟨hx, hb, hml, hown, hts⟩ (mt_isEater_t l E (fun q => xMF mo aS aT aW aO tr q ∨ sz ≤ q) mo aS aT aW aO tr (nI 0) n so m ts sh x hn hm h1) (cwV 1 hts (lw_V q846 q848 qs15 q44 q849) rfl rfl rfl (by decide +kernel) ⟨Nat.le_of_ble_eq_true rfl, Nat.le_of_ble_eq_true rfl⟩) ⟨xPre_blind, ((hM).1.1).recv hE rfl, fun U hU hW => xPre_at hE hS (fun _ h => h) hM.1 hU hW⟩ rfl rfl hl.1 rfl (lv_room (Nat.le_of_ble_eq_true rfl)) dX4_setTaste_7 ⟨(show 0 + 0 ≤ 0 by omega), (show 0 + 0 ≤ 0 by omega)⟩) ?_
    refine xr_zeq (tgt := 20) hx hb dX4_setTaste_10 (by decide) (by omega) (fun c_ => absurd c_ (by omega)) (fun c_ => ?_)
    refine lv_iload_n hx hb dX4_setTaste_13 rfl (lv_at hl 2 rfl) ?_
    refine xr_ro (va_runS (As := [.int y]) (rest := []) ⟨hx, hb, hml, hown, hts⟩ (mt_isSort_f l E (fun q => xMF mo aS aT aW aO tr q ∨ sz ≤ q) y (h.resolve_left (fun q => q h1))) (va_cwS 1 hts (lw_S q835 q836 q44 q837) rfl rfl rfl (by decide +kernel) ⟨Nat.le_of_ble_eq_true rfl, Nat.le_of_ble_eq_true rfl⟩) ⟨xPre_blind, fun U hU hW => xPre_at hE hS (fun _ h => h) trivial hU hW⟩ rfl rfl hl.1 rfl (lv_room (Nat.le_of_ble_eq_true rfl)) dX4_setTaste_14 ⟨(show 0 + 0 ≤ 0 by omega), (show 0 + 0 ≤ 0 by omega)⟩) ?_
    refine xr_zne (tgt := 26) hx hb dX4_setTaste_17 (by decide) (by omega) (fun c_ => absurd c_ (by omega)) (fun c_ => ?_)
    refine lv_aload_n hx hb dX4_setTaste_20 rfl (lv_at hl 0 rfl) ?_
    refine lv_iconst (v := (nI 1)) hx hb dX4_setTaste_21 (by decide) ?_
    refine xr_mu (va_runV (As := [.int (nI 1)]) (rest := []) ⟨hx, hb, hml, hown, hts⟩ (mt_no l E mo aS aT aW aO (nI 0) n m sh 1) (cwV 1 hts (lw_V q823 q825 qs13 q44 q826) rfl rfl rfl (by decide +kernel) ⟨Nat.le_of_ble_eq_true rfl, Nat.le_of_ble_eq_true rfl⟩) ⟨xPre_blind, ((hM).1.1).recv hE rfl, fun U hU hW => xPre_at hE hS (fun q h => Or.inl (Or.inl (Or.inl h))) hM.1.1 hU hW⟩ rfl rfl hl.1 rfl (lv_room (Nat.le_of_ble_eq_true rfl)) dX4_setTaste_22 ⟨(show 0 + 0 ≤ 0 by omega), (show 0 + 0 ≤ 0 by omega)⟩) hS (fun q h => Or.inl (Or.inl (Or.inl h))) (fun q h => Or.inl (Or.inl (Or.inl h))) (fun vv H_5 L_6 hP_ hz_7 hk_8 hS => ?_)
    obtain ⟨hv_, hO_⟩ := hP_
    subst hv_
    have hM := hM.put hd hO_ (fun q h1 h2 => hk_8 q h1 h2)
    exact W.iret hx hb hr (fun t ht hW => ⟨⟨_, rfl, by rw [ht]; exact ⟨rfl, hM⟩⟩, hS.F ht⟩) hS.2.2 dX4_setTaste_25
  · refine xr_ro (va_runV (As := [.int x]) (rest := []) ⟨hx, hb, hml, hown, hts⟩ (mt_isEater_f l E (fun q => xMF mo aS aT aW aO tr q ∨ sz ≤ q) mo aS aT aW aO tr (nI 0) n so m ts sh x hn hm h1) (cwV 1 hts (lw_V q846 q848 qs15 q44 q849) rfl rfl rfl (by decide +kernel) ⟨Nat.le_of_ble_eq_true rfl, Nat.le_of_ble_eq_true rfl⟩) ⟨xPre_blind, ((hM).1.1).recv hE rfl, fun U hU hW => xPre_at hE hS (fun _ h => h) hM.1 hU hW⟩ rfl rfl hl.1 rfl (lv_room (Nat.le_of_ble_eq_true rfl)) dX4_setTaste_7 ⟨(show 0 + 0 ≤ 0 by omega), (show 0 + 0 ≤ 0 by omega)⟩) ?_
    refine xr_zeq (tgt := 20) hx hb dX4_setTaste_10 (by decide) (by omega) (fun c_ => ?_) (fun c_ => absurd c_ (by omega))
    refine lv_aload_n hx hb dX4_setTaste_20 rfl (lv_at hl 0 rfl) ?_
    refine lv_iconst (v := (nI 1)) hx hb dX4_setTaste_21 (by decide) ?_
    refine xr_mu (va_runV (As := [.int (nI 1)]) (rest := []) ⟨hx, hb, hml, hown, hts⟩ (mt_no l E mo aS aT aW aO (nI 0) n m sh 1) (cwV 1 hts (lw_V q823 q825 qs13 q44 q826) rfl rfl rfl (by decide +kernel) ⟨Nat.le_of_ble_eq_true rfl, Nat.le_of_ble_eq_true rfl⟩) ⟨xPre_blind, ((hM).1.1).recv hE rfl, fun U hU hW => xPre_at hE hS (fun q h => Or.inl (Or.inl (Or.inl h))) hM.1.1 hU hW⟩ rfl rfl hl.1 rfl (lv_room (Nat.le_of_ble_eq_true rfl)) dX4_setTaste_22 ⟨(show 0 + 0 ≤ 0 by omega), (show 0 + 0 ≤ 0 by omega)⟩) hS (fun q h => Or.inl (Or.inl (Or.inl h))) (fun q h => Or.inl (Or.inl (Or.inl h))) (fun vv H_9 L_10 hP_ hz_11 hk_12 hS => ?_)
    obtain ⟨hv_, hO_⟩ := hP_
    subst hv_
    have hM := hM.put hd hO_ (fun q h1 h2 => hk_12 q h1 h2)
    exact W.iret hx hb hr (fun t ht hW => ⟨⟨_, rfl, by rw [ht]; exact ⟨rfl, hM⟩⟩, hS.F ht⟩) hS.2.2 dX4_setTaste_25

set_option maxHeartbeats 4000000 in
set_option maxRecDepth 100000 in
theorem mt_setTaste_no2 (l : Launch) (E : xG) (mo aS aT aW aO : Nat) (tr : Nat → Nat) (th : Int32) (n : Nat) (so : Nat → Nat) (m : Nat) (ts : Nat → Nat → Nat) (sh : Int32) (ow ot : Nat → Int32) (sz : Nat) (x y z : Int32) (h1 : vp_in x m) (h2 : vp_in y 5) (h3 : z < nI 0 ∨ nI 9 < z) (hn : n ≤ 40) (hm : m ≤ 5) (hd : xMd mo aS aT aW aO tr) (hso : ∀ k, so k < 5) (hts9 : ∀ e k, ts e k ≤ 9) : Met l yX4_setTaste (ws_ yX4_setTaste cX4_setTaste 5 (some .int)) ({ frames := 7, cells := 0, slots := 0, locals := 280 } : Room) (xPre E (fun q => xMF mo aS aT aW aO tr q ∨ sz ≤ q) [.ref mo, .int x, .int y, .int z] (fun H => H.size = sz ∧ xM E mo aS aT aW aO tr th n so m ts sh ow ot H)) (xQ (fun q => xMF mo aS aT aW aO tr q ∨ sz ≤ q) (fun v H => v = .int (nI 0) ∧ xM E mo aS aT aW aO tr (nI 2) n so m ts sh ow ot H)) 0 0 (fun q => xMF mo aS aT aW aO tr q ∨ sz ≤ q) := by
  refine Met.ofW (cc := cX4_setTaste) (maxL := 5) (ret := (some .int)) (by decide) rfl ?_
  intro P0 e0 s m0 args below meth c0 s₁ B hml hv
  obtain ⟨rfl, hE, hsz, hM⟩ := hv
  have hx := B.exec
  have hb := B.bytes
  have hr := B.returns
  have hts := atoms_spec (ws := ws_ yX4_setTaste cX4_setTaste 5 (some .int)) B.pre
  have hts : ∀ w ∈ lw_all, w.before _ s = true := fun w h => hts w (List.mem_cons_of_mem _ h)
  have hown : s.vm.findClass RX4 = some m0.cls := findClass_of_methodNamed B.named
  have hlocks := B.notSynchronized
  have hS : va_S (fun q => xMF mo aS aT aW aO tr q ∨ sz ≤ q) s.heap s.heap [] := va_S.rf
  have hl := lv_entry ([.ref mo, .int x, .int y, .int z]) (n := 5) (Nat.le_of_ble_eq_true rfl)
  rw [lg_entry_eq]
  generalize (lg_sl ([.ref mo, .int x, .int y, .int z]) ++ List.replicate (5 - (lg_sl ([.ref mo, .int x, .int y, .int z])).length) Slot.unset).toArray = ls at hl ⊢
  have hl : lv_has ls 5 [(0, .ref mo), (1, .int x), (2, .int y), (3, .int z)] := hl
  refine lv_aload_n hx hb dX4_setTaste_0 rfl (lv_at hl 0 rfl) ?_
  refine lv_iconst (v := (nI 0)) hx hb dX4_setTaste_1 (by decide) ?_
  refine xr_put hx hb hts in_X4 tyX4 tyX4_ok nmX4 hown hE hS (Or.inl (Or.inl (Or.inl rfl))) ((hM).1.1) rfl 0 (by decide) (hts _ q787) (fun _ h => h) rfl (ty := tyX4 0) (by decide) rfl rfl (Nat.le_of_ble_eq_true rfl) dX4_setTaste_2 (fun H_1 L_2 hO_ hz_3 ho_4 hS => ?_)
  have hO_ : xO E mo 3 [.int (nI 0), .int (nI n), .ref aS, .int (nI m), .ref aT, .int sh, .ref aW, .ref aO] H_1 := hO_
  have hM := hM.put hd hO_ (fun q _ h => ho_4 q h)
  refine lv_aload_n hx hb dX4_setTaste_5 rfl (lv_at hl 0 rfl) ?_
  refine lv_iload_n hx hb dX4_setTaste_6 rfl (lv_at hl 1 rfl) ?_
  refine xr_ro (va_runV (As := [.int x]) (rest := []) ⟨hx, hb, hml, hown, hts⟩ (mt_isEater_t l E (fun q => xMF mo aS aT aW aO tr q ∨ sz ≤ q) mo aS aT aW aO tr (nI 0) n so m ts sh x hn hm h1) (cwV 1 hts (lw_V q846 q848 qs15 q44 q849) rfl rfl rfl (by decide +kernel) ⟨Nat.le_of_ble_eq_true rfl, Nat.le_of_ble_eq_true rfl⟩) ⟨xPre_blind, ((hM).1.1).recv hE rfl, fun U hU hW => xPre_at hE hS (fun _ h => h) hM.1 hU hW⟩ rfl rfl hl.1 rfl (lv_room (Nat.le_of_ble_eq_true rfl)) dX4_setTaste_7 ⟨(show 0 + 0 ≤ 0 by omega), (show 0 + 0 ≤ 0 by omega)⟩) ?_
  refine xr_zeq (tgt := 20) hx hb dX4_setTaste_10 (by decide) (by omega) (fun c_ => absurd c_ (by omega)) (fun c_ => ?_)
  refine lv_iload_n hx hb dX4_setTaste_13 rfl (lv_at hl 2 rfl) ?_
  refine xr_ro (va_runS (As := [.int y]) (rest := []) ⟨hx, hb, hml, hown, hts⟩ (mt_isSort_t l E (fun q => xMF mo aS aT aW aO tr q ∨ sz ≤ q) y h2) (va_cwS 1 hts (lw_S q835 q836 q44 q837) rfl rfl rfl (by decide +kernel) ⟨Nat.le_of_ble_eq_true rfl, Nat.le_of_ble_eq_true rfl⟩) ⟨xPre_blind, fun U hU hW => xPre_at hE hS (fun _ h => h) trivial hU hW⟩ rfl rfl hl.1 rfl (lv_room (Nat.le_of_ble_eq_true rfl)) dX4_setTaste_14 ⟨(show 0 + 0 ≤ 0 by omega), (show 0 + 0 ≤ 0 by omega)⟩) ?_
  refine xr_zne (tgt := 26) hx hb dX4_setTaste_17 (by decide) (by omega) (fun c_ => ?_) (fun c_ => absurd c_ (by omega))
  refine lv_iload_n hx hb dX4_setTaste_26 rfl (lv_at hl 3 rfl) ?_
  refine lv_iconst (v := (nI 0)) hx hb dX4_setTaste_27 (by decide) ?_
  refine lv_bipush (v := (nI 9)) hx hb dX4_setTaste_28 (by decide) ?_
  refine xr_ro (va_runS (As := [.int z, .int (nI 0), .int (nI 9)]) (rest := []) ⟨hx, hb, hml, hown, hts⟩ (mt_isIn_f l E (fun q => xMF mo aS aT aW aO tr q ∨ sz ≤ q) z (nI 0) (nI 9) h3) (va_cwS 3 hts (lw_S q820 q821 q44 q822) rfl rfl rfl (by decide +kernel) ⟨Nat.le_of_ble_eq_true rfl, Nat.le_of_ble_eq_true rfl⟩) ⟨xPre_blind, fun U hU hW => xPre_at hE hS (fun _ h => h) trivial hU hW⟩ rfl rfl hl.1 rfl (lv_room (Nat.le_of_ble_eq_true rfl)) dX4_setTaste_30 ⟨(show 0 + 0 ≤ 0 by omega), (show 0 + 0 ≤ 0 by omega)⟩) ?_
  refine xr_zne (tgt := 42) hx hb dX4_setTaste_33 (by decide) (by omega) (fun c_ => absurd c_ (by omega)) (fun c_ => ?_)
  refine lv_aload_n hx hb dX4_setTaste_36 rfl (lv_at hl 0 rfl) ?_
  refine lv_iconst (v := (nI 2)) hx hb dX4_setTaste_37 (by decide) ?_
  refine xr_mu (va_runV (As := [.int (nI 2)]) (rest := []) ⟨hx, hb, hml, hown, hts⟩ (mt_no l E mo aS aT aW aO (nI 0) n m sh 2) (cwV 1 hts (lw_V q823 q825 qs13 q44 q826) rfl rfl rfl (by decide +kernel) ⟨Nat.le_of_ble_eq_true rfl, Nat.le_of_ble_eq_true rfl⟩) ⟨xPre_blind, ((hM).1.1).recv hE rfl, fun U hU hW => xPre_at hE hS (fun q h => Or.inl (Or.inl (Or.inl h))) hM.1.1 hU hW⟩ rfl rfl hl.1 rfl (lv_room (Nat.le_of_ble_eq_true rfl)) dX4_setTaste_38 ⟨(show 0 + 0 ≤ 0 by omega), (show 0 + 0 ≤ 0 by omega)⟩) hS (fun q h => Or.inl (Or.inl (Or.inl h))) (fun q h => Or.inl (Or.inl (Or.inl h))) (fun vv H_5 L_6 hP_ hz_7 hk_8 hS => ?_)
  obtain ⟨hv_, hO_⟩ := hP_
  subst hv_
  have hM := hM.put hd hO_ (fun q h1 h2 => hk_8 q h1 h2)
  exact W.iret hx hb hr (fun t ht hW => ⟨⟨_, rfl, by rw [ht]; exact ⟨rfl, hM⟩⟩, hS.F ht⟩) hS.2.2 dX4_setTaste_41

set_option maxHeartbeats 4000000 in
set_option maxRecDepth 100000 in
theorem mt_give_ok (l : Launch) (E : xG) (mo aS aT aW aO : Nat) (tr : Nat → Nat) (th : Int32) (n : Nat) (so : Nat → Nat) (m : Nat) (ts : Nat → Nat → Nat) (sh : Int32) (ow ot : Nat → Int32) (sz : Nat) (i : Nat) (x : Int32) (hi : i < n) (h : x = -1 ∨ vp_in x m) (hn : n ≤ 40) (hm : m ≤ 5) (hd : xMd mo aS aT aW aO tr) (hso : ∀ k, so k < 5) (hts9 : ∀ e k, ts e k ≤ 9) : Met l yX4_give (ws_ yX4_give cX4_give 4 (some .int)) ({ frames := 7, cells := 0, slots := 0, locals := 280 } : Room) (xPre E (fun q => xMF mo aS aT aW aO tr q ∨ sz ≤ q) [.ref mo, .int (nI i), .int x] (fun H => H.size = sz ∧ xM E mo aS aT aW aO tr th n so m ts sh ow ot H)) (xQ (fun q => xMF mo aS aT aW aO tr q ∨ sz ≤ q) (fun v H => v = .int (ow i) ∧ xM E mo aS aT aW aO tr (nI 0) n so m ts sh (upd ow i x) ot H)) 0 0 (fun q => xMF mo aS aT aW aO tr q ∨ sz ≤ q) := by
  refine Met.ofW (cc := cX4_give) (maxL := 4) (ret := (some .int)) (by decide) rfl ?_
  intro P0 e0 s m0 args below meth c0 s₁ B hml hv
  obtain ⟨rfl, hE, hsz, hM⟩ := hv
  have hx := B.exec
  have hb := B.bytes
  have hr := B.returns
  have hts := atoms_spec (ws := ws_ yX4_give cX4_give 4 (some .int)) B.pre
  have hts : ∀ w ∈ lw_all, w.before _ s = true := fun w h => hts w (List.mem_cons_of_mem _ h)
  have hown : s.vm.findClass RX4 = some m0.cls := findClass_of_methodNamed B.named
  have hlocks := B.notSynchronized
  have hS : va_S (fun q => xMF mo aS aT aW aO tr q ∨ sz ≤ q) s.heap s.heap [] := va_S.rf
  have hl := lv_entry ([.ref mo, .int (nI i), .int x]) (n := 4) (Nat.le_of_ble_eq_true rfl)
  rw [lg_entry_eq]
  generalize (lg_sl ([.ref mo, .int (nI i), .int x]) ++ List.replicate (4 - (lg_sl ([.ref mo, .int (nI i), .int x])).length) Slot.unset).toArray = ls at hl ⊢
  have hl : lv_has ls 4 [(0, .ref mo), (1, .int (nI i)), (2, .int x)] := hl
  refine lv_aload_n hx hb dX4_give_0 rfl (lv_at hl 0 rfl) ?_
  refine lv_iconst (v := (nI 0)) hx hb dX4_give_1 (by decide) ?_
  refine xr_put hx hb hts in_X4 tyX4 tyX4_ok nmX4 hown hE hS (Or.inl (Or.inl (Or.inl rfl))) ((hM).1.1) rfl 0 (by decide) (hts _ q787) (fun _ h => h) rfl (ty := tyX4 0) (by decide) rfl rfl (Nat.le_of_ble_eq_true rfl) dX4_give_2 (fun H_1 L_2 hO_ hz_3 ho_4 hS => ?_)
  have hO_ : xO E mo 3 [.int (nI 0), .int (nI n), .ref aS, .int (nI m), .ref aT, .int sh, .ref aW, .ref aO] H_1 := hO_
  have hM := hM.put hd hO_ (fun q _ h => ho_4 q h)
  refine lv_aload_n hx hb dX4_give_5 rfl (lv_at hl 0 rfl) ?_
  refine lv_iload_n hx hb dX4_give_6 rfl (lv_at hl 1 rfl) ?_
  refine xr_ro (va_runV (As := [.int (nI i)]) (rest := []) ⟨hx, hb, hml, hown, hts⟩ (mt_isSlice_t l E (fun q => xMF mo aS aT aW aO tr q ∨ sz ≤ q) mo aS aT aW aO tr (nI 0) n so m ts sh (nI i) hn hm (vp_in_nI hi (by omega))) (cwV 1 hts (lw_V q831 q833 qs14 q44 q834) rfl rfl rfl (by decide +kernel) ⟨Nat.le_of_ble_eq_true rfl, Nat.le_of_ble_eq_true rfl⟩) ⟨xPre_blind, ((hM).1.1).recv hE rfl, fun U hU hW => xPre_at hE hS (fun _ h => h) hM.1 hU hW⟩ rfl rfl hl.1 rfl (lv_room (Nat.le_of_ble_eq_true rfl)) dX4_give_7 ⟨(show 0 + 0 ≤ 0 by omega), (show 0 + 0 ≤ 0 by omega)⟩) ?_
  refine xr_zeq (tgt := 26) hx hb dX4_give_10 (by decide) (by omega) (fun c_ => absurd c_ (by omega)) (fun c_ => ?_)
  refine lv_iload_n hx hb dX4_give_13 rfl (lv_at hl 2 rfl) ?_
  refine lv_iconst (v := (-1)) hx hb dX4_give_14 (by decide) ?_
  refine lv_icmp_eq (tgt := 32) hx hb dX4_give_15 (by decide) (fun c1 => ?_) (fun c1 => ?_)
  · refine lv_aload_n hx hb dX4_give_32 rfl (lv_at hl 0 rfl) ?_
    refine xr_get hx hb hts in_X4 hown hE ((hM).1.1) rfl 6 (by decide) (hts _ q793) (fun _ h => h) rfl dX4_give_33 ?_
    refine lv_iload_n hx hb dX4_give_36 rfl (lv_at hl 1 rfl) ?_
    refine xr_iald hx hb hE ((hM).2.1) (i := i) (by omega) (by omega) dX4_give_37 ?_
    refine lv_istore_n (lv' := [(3, .int (ow i)), (0, .ref mo), (1, .int (nI i)), (2, .int x)]) hx hb dX4_give_38 rfl hl (by decide) rfl (fun ls hl => ?_)
    refine lv_aload_n hx hb dX4_give_39 rfl (lv_at hl 1 rfl) ?_
    refine xr_get hx hb hts in_X4 hown hE ((hM).1.1) rfl 6 (by decide) (hts _ q793) (fun _ h => h) rfl dX4_give_40 ?_
    refine lv_iload_n hx hb dX4_give_43 rfl (lv_at hl 2 rfl) ?_
    refine lv_iload_n hx hb dX4_give_44 rfl (lv_at hl 3 rfl) ?_
    refine xr_iast hx hb hE hS (Or.inl (Or.inr (Or.inl rfl))) ((hM).2.1) (i := i) (by omega) (by omega) dX4_give_45 (fun H_5 L_6 hI_ hz_7 ho_8 hS => ?_)
    have hM := hM.setW hd hI_ (fun q _ h => ho_8 q h)
    refine lv_iload_n hx hb dX4_give_46 rfl (lv_at hl 0 rfl) ?_
    exact W.iret hx hb hr (fun t ht hW => ⟨⟨_, rfl, by rw [ht]; exact ⟨rfl, hM⟩⟩, hS.F ht⟩) hS.2.2 dX4_give_47
  · refine lv_aload_n hx hb dX4_give_18 rfl (lv_at hl 0 rfl) ?_
    refine lv_iload_n hx hb dX4_give_19 rfl (lv_at hl 2 rfl) ?_
    refine xr_ro (va_runV (As := [.int x]) (rest := []) ⟨hx, hb, hml, hown, hts⟩ (mt_isEater_t l E (fun q => xMF mo aS aT aW aO tr q ∨ sz ≤ q) mo aS aT aW aO tr (nI 0) n so m ts sh x hn hm (h.resolve_left c1)) (cwV 1 hts (lw_V q846 q848 qs15 q44 q849) rfl rfl rfl (by decide +kernel) ⟨Nat.le_of_ble_eq_true rfl, Nat.le_of_ble_eq_true rfl⟩) ⟨xPre_blind, ((hM).1.1).recv hE rfl, fun U hU hW => xPre_at hE hS (fun _ h => h) hM.1 hU hW⟩ rfl rfl hl.1 rfl (lv_room (Nat.le_of_ble_eq_true rfl)) dX4_give_20 ⟨(show 0 + 0 ≤ 0 by omega), (show 0 + 0 ≤ 0 by omega)⟩) ?_
    refine xr_zne (tgt := 32) hx hb dX4_give_23 (by decide) (by omega) (fun c_ => ?_) (fun c_ => absurd c_ (by omega))
    refine lv_aload_n hx hb dX4_give_32 rfl (lv_at hl 0 rfl) ?_
    refine xr_get hx hb hts in_X4 hown hE ((hM).1.1) rfl 6 (by decide) (hts _ q793) (fun _ h => h) rfl dX4_give_33 ?_
    refine lv_iload_n hx hb dX4_give_36 rfl (lv_at hl 1 rfl) ?_
    refine xr_iald hx hb hE ((hM).2.1) (i := i) (by omega) (by omega) dX4_give_37 ?_
    refine lv_istore_n (lv' := [(3, .int (ow i)), (0, .ref mo), (1, .int (nI i)), (2, .int x)]) hx hb dX4_give_38 rfl hl (by decide) rfl (fun ls hl => ?_)
    refine lv_aload_n hx hb dX4_give_39 rfl (lv_at hl 1 rfl) ?_
    refine xr_get hx hb hts in_X4 hown hE ((hM).1.1) rfl 6 (by decide) (hts _ q793) (fun _ h => h) rfl dX4_give_40 ?_
    refine lv_iload_n hx hb dX4_give_43 rfl (lv_at hl 2 rfl) ?_
    refine lv_iload_n hx hb dX4_give_44 rfl (lv_at hl 3 rfl) ?_
    refine xr_iast hx hb hE hS (Or.inl (Or.inr (Or.inl rfl))) ((hM).2.1) (i := i) (by omega) (by omega) dX4_give_45 (fun H_9 L_10 hI_ hz_11 ho_12 hS => ?_)
    have hM := hM.setW hd hI_ (fun q _ h => ho_12 q h)
    refine lv_iload_n hx hb dX4_give_46 rfl (lv_at hl 0 rfl) ?_
    exact W.iret hx hb hr (fun t ht hW => ⟨⟨_, rfl, by rw [ht]; exact ⟨rfl, hM⟩⟩, hS.F ht⟩) hS.2.2 dX4_give_47

set_option maxHeartbeats 4000000 in
set_option maxRecDepth 100000 in
theorem mt_give_no (l : Launch) (E : xG) (mo aS aT aW aO : Nat) (tr : Nat → Nat) (th : Int32) (n : Nat) (so : Nat → Nat) (m : Nat) (ts : Nat → Nat → Nat) (sh : Int32) (ow ot : Nat → Int32) (sz : Nat) (x y : Int32) (h : ¬ vp_in x n ∨ (¬ y = -1 ∧ ¬ vp_in y m)) (hn : n ≤ 40) (hm : m ≤ 5) (hd : xMd mo aS aT aW aO tr) (hso : ∀ k, so k < 5) (hts9 : ∀ e k, ts e k ≤ 9) : Met l yX4_give (ws_ yX4_give cX4_give 4 (some .int)) ({ frames := 7, cells := 0, slots := 0, locals := 280 } : Room) (xPre E (fun q => xMF mo aS aT aW aO tr q ∨ sz ≤ q) [.ref mo, .int x, .int y] (fun H => H.size = sz ∧ xM E mo aS aT aW aO tr th n so m ts sh ow ot H)) (xQ (fun q => xMF mo aS aT aW aO tr q ∨ sz ≤ q) (fun v H => v = .int (nI 0) ∧ xM E mo aS aT aW aO tr (nI 1) n so m ts sh ow ot H)) 0 0 (fun q => xMF mo aS aT aW aO tr q ∨ sz ≤ q) := by
  refine Met.ofW (cc := cX4_give) (maxL := 4) (ret := (some .int)) (by decide) rfl ?_
  intro P0 e0 s m0 args below meth c0 s₁ B hml hv
  obtain ⟨rfl, hE, hsz, hM⟩ := hv
  have hx := B.exec
  have hb := B.bytes
  have hr := B.returns
  have hts := atoms_spec (ws := ws_ yX4_give cX4_give 4 (some .int)) B.pre
  have hts : ∀ w ∈ lw_all, w.before _ s = true := fun w h => hts w (List.mem_cons_of_mem _ h)
  have hown : s.vm.findClass RX4 = some m0.cls := findClass_of_methodNamed B.named
  have hlocks := B.notSynchronized
  have hS : va_S (fun q => xMF mo aS aT aW aO tr q ∨ sz ≤ q) s.heap s.heap [] := va_S.rf
  have hl := lv_entry ([.ref mo, .int x, .int y]) (n := 4) (Nat.le_of_ble_eq_true rfl)
  rw [lg_entry_eq]
  generalize (lg_sl ([.ref mo, .int x, .int y]) ++ List.replicate (4 - (lg_sl ([.ref mo, .int x, .int y])).length) Slot.unset).toArray = ls at hl ⊢
  have hl : lv_has ls 4 [(0, .ref mo), (1, .int x), (2, .int y)] := hl
  refine lv_aload_n hx hb dX4_give_0 rfl (lv_at hl 0 rfl) ?_
  refine lv_iconst (v := (nI 0)) hx hb dX4_give_1 (by decide) ?_
  refine xr_put hx hb hts in_X4 tyX4 tyX4_ok nmX4 hown hE hS (Or.inl (Or.inl (Or.inl rfl))) ((hM).1.1) rfl 0 (by decide) (hts _ q787) (fun _ h => h) rfl (ty := tyX4 0) (by decide) rfl rfl (Nat.le_of_ble_eq_true rfl) dX4_give_2 (fun H_1 L_2 hO_ hz_3 ho_4 hS => ?_)
  have hO_ : xO E mo 3 [.int (nI 0), .int (nI n), .ref aS, .int (nI m), .ref aT, .int sh, .ref aW, .ref aO] H_1 := hO_
  have hM := hM.put hd hO_ (fun q _ h => ho_4 q h)
  refine lv_aload_n hx hb dX4_give_5 rfl (lv_at hl 0 rfl) ?_
  refine lv_iload_n hx hb dX4_give_6 rfl (lv_at hl 1 rfl) ?_
  by_cases h1 : vp_in x n
  · refine xr_ro (va_runV (As := [.int x]) (rest := []) ⟨hx, hb, hml, hown, hts⟩ (mt_isSlice_t l E (fun q => xMF mo aS aT aW aO tr q ∨ sz ≤ q) mo aS aT aW aO tr (nI 0) n so m ts sh x hn hm h1) (cwV 1 hts (lw_V q831 q833 qs14 q44 q834) rfl rfl rfl (by decide +kernel) ⟨Nat.le_of_ble_eq_true rfl, Nat.le_of_ble_eq_true rfl⟩) ⟨xPre_blind, ((hM).1.1).recv hE rfl, fun U hU hW => xPre_at hE hS (fun _ h => h) hM.1 hU hW⟩ rfl rfl hl.1 rfl (lv_room (Nat.le_of_ble_eq_true rfl)) dX4_give_7 ⟨(show 0 + 0 ≤ 0 by omega), (show 0 + 0 ≤ 0 by omega)⟩) ?_
    refine xr_zeq (tgt := 26) hx hb dX4_give_10 (by decide) (by omega) (fun c_ => absurd c_ (by omega)) (fun c_ => ?_)
    refine lv_iload_n hx hb dX4_give_13 rfl (lv_at hl 2 rfl) ?_
    refine lv_iconst (v := (-1)) hx hb dX4_give_14 (by decide) ?_
    refine lv_icmp_eq (tgt := 32) hx hb dX4_give_15 (by decide) (fun c_ => absurd c_ (h.resolve_left (fun q => q h1)).1) (fun c_ => ?_)
    refine lv_aload_n hx hb dX4_give_18 rfl (lv_at hl 0 rfl) ?_
    refine lv_iload_n hx hb dX4_give_19 rfl (lv_at hl 2 rfl) ?_
    refine xr_ro (va_runV (As := [.int y]) (rest := []) ⟨hx, hb, hml, hown, hts⟩ (mt_isEater_f l E (fun q => xMF mo aS aT aW aO tr q ∨ sz ≤ q) mo aS aT aW aO tr (nI 0) n so m ts sh y hn hm ((h.resolve_left (fun q => q h1)).2)) (cwV 1 hts (lw_V q846 q848 qs15 q44 q849) rfl rfl rfl (by decide +kernel) ⟨Nat.le_of_ble_eq_true rfl, Nat.le_of_ble_eq_true rfl⟩) ⟨xPre_blind, ((hM).1.1).recv hE rfl, fun U hU hW => xPre_at hE hS (fun _ h => h) hM.1 hU hW⟩ rfl rfl hl.1 rfl (lv_room (Nat.le_of_ble_eq_true rfl)) dX4_give_20 ⟨(show 0 + 0 ≤ 0 by omega), (show 0 + 0 ≤ 0 by omega)⟩) ?_
    refine xr_zne (tgt := 32) hx hb dX4_give_23 (by decide) (by omega) (fun c_ => absurd c_ (by omega)) (fun c_ => ?_)
    refine lv_aload_n hx hb dX4_give_26 rfl (lv_at hl 0 rfl) ?_
    refine lv_iconst (v := (nI 1)) hx hb dX4_give_27 (by decide) ?_
    refine xr_mu (va_runV (As := [.int (nI 1)]) (rest := []) ⟨hx, hb, hml, hown, hts⟩ (mt_no l E mo aS aT aW aO (nI 0) n m sh 1) (cwV 1 hts (lw_V q823 q825 qs13 q44 q826) rfl rfl rfl (by decide +kernel) ⟨Nat.le_of_ble_eq_true rfl, Nat.le_of_ble_eq_true rfl⟩) ⟨xPre_blind, ((hM).1.1).recv hE rfl, fun U hU hW => xPre_at hE hS (fun q h => Or.inl (Or.inl (Or.inl h))) hM.1.1 hU hW⟩ rfl rfl hl.1 rfl (lv_room (Nat.le_of_ble_eq_true rfl)) dX4_give_28 ⟨(show 0 + 0 ≤ 0 by omega), (show 0 + 0 ≤ 0 by omega)⟩) hS (fun q h => Or.inl (Or.inl (Or.inl h))) (fun q h => Or.inl (Or.inl (Or.inl h))) (fun vv H_5 L_6 hP_ hz_7 hk_8 hS => ?_)
    obtain ⟨hv_, hO_⟩ := hP_
    subst hv_
    have hM := hM.put hd hO_ (fun q h1 h2 => hk_8 q h1 h2)
    exact W.iret hx hb hr (fun t ht hW => ⟨⟨_, rfl, by rw [ht]; exact ⟨rfl, hM⟩⟩, hS.F ht⟩) hS.2.2 dX4_give_31
  · refine xr_ro (va_runV (As := [.int x]) (rest := []) ⟨hx, hb, hml, hown, hts⟩ (mt_isSlice_f l E (fun q => xMF mo aS aT aW aO tr q ∨ sz ≤ q) mo aS aT aW aO tr (nI 0) n so m ts sh x hn hm h1) (cwV 1 hts (lw_V q831 q833 qs14 q44 q834) rfl rfl rfl (by decide +kernel) ⟨Nat.le_of_ble_eq_true rfl, Nat.le_of_ble_eq_true rfl⟩) ⟨xPre_blind, ((hM).1.1).recv hE rfl, fun U hU hW => xPre_at hE hS (fun _ h => h) hM.1 hU hW⟩ rfl rfl hl.1 rfl (lv_room (Nat.le_of_ble_eq_true rfl)) dX4_give_7 ⟨(show 0 + 0 ≤ 0 by omega), (show 0 + 0 ≤ 0 by omega)⟩) ?_
    refine xr_zeq (tgt := 26) hx hb dX4_give_10 (by decide) (by omega) (fun c_ => ?_) (fun c_ => absurd c_ (by omega))
    refine lv_aload_n hx hb dX4_give_26 rfl (lv_at hl 0 rfl) ?_
    refine lv_iconst (v := (nI 1)) hx hb dX4_give_27 (by decide) ?_
    refine xr_mu (va_runV (As := [.int (nI 1)]) (rest := []) ⟨hx, hb, hml, hown, hts⟩ (mt_no l E mo aS aT aW aO (nI 0) n m sh 1) (cwV 1 hts (lw_V q823 q825 qs13 q44 q826) rfl rfl rfl (by decide +kernel) ⟨Nat.le_of_ble_eq_true rfl, Nat.le_of_ble_eq_true rfl⟩) ⟨xPre_blind, ((hM).1.1).recv hE rfl, fun U hU hW => xPre_at hE hS (fun q h => Or.inl (Or.inl (Or.inl h))) hM.1.1 hU hW⟩ rfl rfl hl.1 rfl (lv_room (Nat.le_of_ble_eq_true rfl)) dX4_give_28 ⟨(show 0 + 0 ≤ 0 by omega), (show 0 + 0 ≤ 0 by omega)⟩) hS (fun q h => Or.inl (Or.inl (Or.inl h))) (fun q h => Or.inl (Or.inl (Or.inl h))) (fun vv H_9 L_10 hP_ hz_11 hk_12 hS => ?_)
    obtain ⟨hv_, hO_⟩ := hP_
    subst hv_
    have hM := hM.put hd hO_ (fun q h1 h2 => hk_12 q h1 h2)
    exact W.iret hx hb hr (fun t ht hW => ⟨⟨_, rfl, by rw [ht]; exact ⟨rfl, hM⟩⟩, hS.F ht⟩) hS.2.2 dX4_give_31

set_option maxHeartbeats 4000000 in
set_option maxRecDepth 100000 in
theorem mt_told_0 (l : Launch) (E : xG) (mo aS aT aW aO : Nat) (tr : Nat → Nat) (th : Int32) (n : Nat) (so : Nat → Nat) (m : Nat) (ts : Nat → Nat → Nat) (sh : Int32) (ow ot : Nat → Int32) (sz : Nat) (i : Nat) (hi : i < n) (hn : n ≤ 40) (hm : m ≤ 5) (hd : xMd mo aS aT aW aO tr) (hso : ∀ k, so k < 5) (hts9 : ∀ e k, ts e k ≤ 9) : Met l yX4_told (ws_ yX4_told cX4_told 3 (some .int)) ({ frames := 7, cells := 0, slots := 0, locals := 280 } : Room) (xPre E (fun q => xMF mo aS aT aW aO tr q ∨ sz ≤ q) [.ref mo, .int (nI i), .int (nI 0)] (fun H => H.size = sz ∧ xM E mo aS aT aW aO tr th n so m ts sh ow ot H)) (xQ (fun q => xMF mo aS aT aW aO tr q ∨ sz ≤ q) (fun v H => v = .int (nI (so i)) ∧ xM E mo aS aT aW aO tr (nI 0) n so m ts sh ow ot H)) 0 0 (fun q => xMF mo aS aT aW aO tr q ∨ sz ≤ q) := by
  refine Met.ofW (cc := cX4_told) (maxL := 3) (ret := (some .int)) (by decide) rfl ?_
  intro P0 e0 s m0 args below meth c0 s₁ B hml hv
  obtain ⟨rfl, hE, hsz, hM⟩ := hv
  have hx := B.exec
  have hb := B.bytes
  have hr := B.returns
  have hts := atoms_spec (ws := ws_ yX4_told cX4_told 3 (some .int)) B.pre
  have hts : ∀ w ∈ lw_all, w.before _ s = true := fun w h => hts w (List.mem_cons_of_mem _ h)
  have hown : s.vm.findClass RX4 = some m0.cls := findClass_of_methodNamed B.named
  have hlocks := B.notSynchronized
  have hS : va_S (fun q => xMF mo aS aT aW aO tr q ∨ sz ≤ q) s.heap s.heap [] := va_S.rf
  have hl := lv_entry ([.ref mo, .int (nI i), .int (nI 0)]) (n := 3) (Nat.le_of_ble_eq_true rfl)
  rw [lg_entry_eq]
  generalize (lg_sl ([.ref mo, .int (nI i), .int (nI 0)]) ++ List.replicate (3 - (lg_sl ([.ref mo, .int (nI i), .int (nI 0)])).length) Slot.unset).toArray = ls at hl ⊢
  have hl : lv_has ls 3 [(0, .ref mo), (1, .int (nI i)), (2, .int (nI 0))] := hl
  refine lv_aload_n hx hb dX4_told_0 rfl (lv_at hl 0 rfl) ?_
  refine lv_iconst (v := (nI 0)) hx hb dX4_told_1 (by decide) ?_
  refine xr_put hx hb hts in_X4 tyX4 tyX4_ok nmX4 hown hE hS (Or.inl (Or.inl (Or.inl rfl))) ((hM).1.1) rfl 0 (by decide) (hts _ q787) (fun _ h => h) rfl (ty := tyX4 0) (by decide) rfl rfl (Nat.le_of_ble_eq_true rfl) dX4_told_2 (fun H_1 L_2 hO_ hz_3 ho_4 hS => ?_)
  have hO_ : xO E mo 3 [.int (nI 0), .int (nI n), .ref aS, .int (nI m), .ref aT, .int sh, .ref aW, .ref aO] H_1 := hO_
  have hM := hM.put hd hO_ (fun q _ h => ho_4 q h)
  refine lv_aload_n hx hb dX4_told_5 rfl (lv_at hl 0 rfl) ?_
  refine lv_iload_n hx hb dX4_told_6 rfl (lv_at hl 1 rfl) ?_
  refine xr_ro (va_runV (As := [.int (nI i)]) (rest := []) ⟨hx, hb, hml, hown, hts⟩ (mt_isSlice_t l E (fun q => xMF mo aS aT aW aO tr q ∨ sz ≤ q) mo aS aT aW aO tr (nI 0) n so m ts sh (nI i) hn hm (vp_in_nI hi (by omega))) (cwV 1 hts (lw_V q831 q833 qs14 q44 q834) rfl rfl rfl (by decide +kernel) ⟨Nat.le_of_ble_eq_true rfl, Nat.le_of_ble_eq_true rfl⟩) ⟨xPre_blind, ((hM).1.1).recv hE rfl, fun U hU hW => xPre_at hE hS (fun _ h => h) hM.1 hU hW⟩ rfl rfl hl.1 rfl (lv_room (Nat.le_of_ble_eq_true rfl)) dX4_told_7 ⟨(show 0 + 0 ≤ 0 by omega), (show 0 + 0 ≤ 0 by omega)⟩) ?_
  refine xr_zeq (tgt := 44) hx hb dX4_told_10 (by decide) (by omega) (fun c_ => absurd c_ (by omega)) (fun c_ => ?_)
  refine lv_iload_n hx hb dX4_told_13 rfl (lv_at hl 2 rfl) ?_
  refine lv_iconst (v := (nI 0)) hx hb dX4_told_14 (by decide) ?_
  refine lv_iconst (v := (nI 1)) hx hb dX4_told_15 (by decide) ?_
  refine xr_ro (va_runS (As := [.int (nI 0), .int (nI 0), .int (nI 1)]) (rest := []) ⟨hx, hb, hml, hown, hts⟩ (mt_isIn_t l E (fun q => xMF mo aS aT aW aO tr q ∨ sz ≤ q) (nI 0) (nI 0) (nI 1) (nI_le (by omega) (by omega)) (nI_le (by omega) (by omega))) (va_cwS 3 hts (lw_S q820 q821 q44 q822) rfl rfl rfl (by decide +kernel) ⟨Nat.le_of_ble_eq_true rfl, Nat.le_of_ble_eq_true rfl⟩) ⟨xPre_blind, fun U hU hW => xPre_at hE hS (fun _ h => h) trivial hU hW⟩ rfl rfl hl.1 rfl (lv_room (Nat.le_of_ble_eq_true rfl)) dX4_told_16 ⟨(show 0 + 0 ≤ 0 by omega), (show 0 + 0 ≤ 0 by omega)⟩) ?_
  refine xr_zeq (tgt := 44) hx hb dX4_told_19 (by decide) (by omega) (fun c_ => absurd c_ (by omega)) (fun c_ => ?_)
  refine lv_iload_n hx hb dX4_told_22 rfl (lv_at hl 2 rfl) ?_
  refine xr_zne (tgt := 35) hx hb dX4_told_23 (by decide) (by omega) (fun c_ => absurd c_ (by omega)) (fun c_ => ?_)
  refine lv_aload_n hx hb dX4_told_26 rfl (lv_at hl 0 rfl) ?_
  refine xr_get hx hb hts in_X4 hown hE ((hM).1.1) rfl 2 (by decide) (hts _ q789) (fun _ h => h) rfl dX4_told_27 ?_
  refine lv_iload_n hx hb dX4_told_30 rfl (lv_at hl 1 rfl) ?_
  refine xr_iald hx hb hE ((hM).1.2.1) (i := i) (by omega) (by omega) dX4_told_31 ?_
  refine lv_goto (tgt := 49) hx hb dX4_told_32 (by decide) ?_
  exact W.iret hx hb hr (fun t ht hW => ⟨⟨_, rfl, by rw [ht]; exact ⟨rfl, hM⟩⟩, hS.F ht⟩) hS.2.2 dX4_told_49

set_option maxHeartbeats 4000000 in
set_option maxRecDepth 100000 in
theorem mt_told_1 (l : Launch) (E : xG) (mo aS aT aW aO : Nat) (tr : Nat → Nat) (th : Int32) (n : Nat) (so : Nat → Nat) (m : Nat) (ts : Nat → Nat → Nat) (sh : Int32) (ow ot : Nat → Int32) (sz : Nat) (i : Nat) (hi : i < n) (hn : n ≤ 40) (hm : m ≤ 5) (hd : xMd mo aS aT aW aO tr) (hso : ∀ k, so k < 5) (hts9 : ∀ e k, ts e k ≤ 9) : Met l yX4_told (ws_ yX4_told cX4_told 3 (some .int)) ({ frames := 7, cells := 0, slots := 0, locals := 280 } : Room) (xPre E (fun q => xMF mo aS aT aW aO tr q ∨ sz ≤ q) [.ref mo, .int (nI i), .int (nI 1)] (fun H => H.size = sz ∧ xM E mo aS aT aW aO tr th n so m ts sh ow ot H)) (xQ (fun q => xMF mo aS aT aW aO tr q ∨ sz ≤ q) (fun v H => v = .int (ow i) ∧ xM E mo aS aT aW aO tr (nI 0) n so m ts sh ow ot H)) 0 0 (fun q => xMF mo aS aT aW aO tr q ∨ sz ≤ q) := by
  refine Met.ofW (cc := cX4_told) (maxL := 3) (ret := (some .int)) (by decide) rfl ?_
  intro P0 e0 s m0 args below meth c0 s₁ B hml hv
  obtain ⟨rfl, hE, hsz, hM⟩ := hv
  have hx := B.exec
  have hb := B.bytes
  have hr := B.returns
  have hts := atoms_spec (ws := ws_ yX4_told cX4_told 3 (some .int)) B.pre
  have hts : ∀ w ∈ lw_all, w.before _ s = true := fun w h => hts w (List.mem_cons_of_mem _ h)
  have hown : s.vm.findClass RX4 = some m0.cls := findClass_of_methodNamed B.named
  have hlocks := B.notSynchronized
  have hS : va_S (fun q => xMF mo aS aT aW aO tr q ∨ sz ≤ q) s.heap s.heap [] := va_S.rf
  have hl := lv_entry ([.ref mo, .int (nI i), .int (nI 1)]) (n := 3) (Nat.le_of_ble_eq_true rfl)
  rw [lg_entry_eq]
  generalize (lg_sl ([.ref mo, .int (nI i), .int (nI 1)]) ++ List.replicate (3 - (lg_sl ([.ref mo, .int (nI i), .int (nI 1)])).length) Slot.unset).toArray = ls at hl ⊢
  have hl : lv_has ls 3 [(0, .ref mo), (1, .int (nI i)), (2, .int (nI 1))] := hl
  refine lv_aload_n hx hb dX4_told_0 rfl (lv_at hl 0 rfl) ?_
  refine lv_iconst (v := (nI 0)) hx hb dX4_told_1 (by decide) ?_
  refine xr_put hx hb hts in_X4 tyX4 tyX4_ok nmX4 hown hE hS (Or.inl (Or.inl (Or.inl rfl))) ((hM).1.1) rfl 0 (by decide) (hts _ q787) (fun _ h => h) rfl (ty := tyX4 0) (by decide) rfl rfl (Nat.le_of_ble_eq_true rfl) dX4_told_2 (fun H_1 L_2 hO_ hz_3 ho_4 hS => ?_)
  have hO_ : xO E mo 3 [.int (nI 0), .int (nI n), .ref aS, .int (nI m), .ref aT, .int sh, .ref aW, .ref aO] H_1 := hO_
  have hM := hM.put hd hO_ (fun q _ h => ho_4 q h)
  refine lv_aload_n hx hb dX4_told_5 rfl (lv_at hl 0 rfl) ?_
  refine lv_iload_n hx hb dX4_told_6 rfl (lv_at hl 1 rfl) ?_
  refine xr_ro (va_runV (As := [.int (nI i)]) (rest := []) ⟨hx, hb, hml, hown, hts⟩ (mt_isSlice_t l E (fun q => xMF mo aS aT aW aO tr q ∨ sz ≤ q) mo aS aT aW aO tr (nI 0) n so m ts sh (nI i) hn hm (vp_in_nI hi (by omega))) (cwV 1 hts (lw_V q831 q833 qs14 q44 q834) rfl rfl rfl (by decide +kernel) ⟨Nat.le_of_ble_eq_true rfl, Nat.le_of_ble_eq_true rfl⟩) ⟨xPre_blind, ((hM).1.1).recv hE rfl, fun U hU hW => xPre_at hE hS (fun _ h => h) hM.1 hU hW⟩ rfl rfl hl.1 rfl (lv_room (Nat.le_of_ble_eq_true rfl)) dX4_told_7 ⟨(show 0 + 0 ≤ 0 by omega), (show 0 + 0 ≤ 0 by omega)⟩) ?_
  refine xr_zeq (tgt := 44) hx hb dX4_told_10 (by decide) (by omega) (fun c_ => absurd c_ (by omega)) (fun c_ => ?_)
  refine lv_iload_n hx hb dX4_told_13 rfl (lv_at hl 2 rfl) ?_
  refine lv_iconst (v := (nI 0)) hx hb dX4_told_14 (by decide) ?_
  refine lv_iconst (v := (nI 1)) hx hb dX4_told_15 (by decide) ?_
  refine xr_ro (va_runS (As := [.int (nI 1), .int (nI 0), .int (nI 1)]) (rest := []) ⟨hx, hb, hml, hown, hts⟩ (mt_isIn_t l E (fun q => xMF mo aS aT aW aO tr q ∨ sz ≤ q) (nI 1) (nI 0) (nI 1) (nI_le (by omega) (by omega)) (nI_le (by omega) (by omega))) (va_cwS 3 hts (lw_S q820 q821 q44 q822) rfl rfl rfl (by decide +kernel) ⟨Nat.le_of_ble_eq_true rfl, Nat.le_of_ble_eq_true rfl⟩) ⟨xPre_blind, fun U hU hW => xPre_at hE hS (fun _ h => h) trivial hU hW⟩ rfl rfl hl.1 rfl (lv_room (Nat.le_of_ble_eq_true rfl)) dX4_told_16 ⟨(show 0 + 0 ≤ 0 by omega), (show 0 + 0 ≤ 0 by omega)⟩) ?_
  refine xr_zeq (tgt := 44) hx hb dX4_told_19 (by decide) (by omega) (fun c_ => absurd c_ (by omega)) (fun c_ => ?_)
  refine lv_iload_n hx hb dX4_told_22 rfl (lv_at hl 2 rfl) ?_
  refine xr_zne (tgt := 35) hx hb dX4_told_23 (by decide) (by omega) (fun c_ => ?_) (fun c_ => absurd c_ (by omega))
  refine lv_aload_n hx hb dX4_told_35 rfl (lv_at hl 0 rfl) ?_
  refine xr_get hx hb hts in_X4 hown hE ((hM).1.1) rfl 6 (by decide) (hts _ q793) (fun _ h => h) rfl dX4_told_36 ?_
  refine lv_iload_n hx hb dX4_told_39 rfl (lv_at hl 1 rfl) ?_
  refine xr_iald hx hb hE ((hM).2.1) (i := i) (by omega) (by omega) dX4_told_40 ?_
  refine lv_goto (tgt := 49) hx hb dX4_told_41 (by decide) ?_
  exact W.iret hx hb hr (fun t ht hW => ⟨⟨_, rfl, by rw [ht]; exact ⟨rfl, hM⟩⟩, hS.F ht⟩) hS.2.2 dX4_told_49

set_option maxHeartbeats 4000000 in
set_option maxRecDepth 100000 in
theorem mt_told_no (l : Launch) (E : xG) (mo aS aT aW aO : Nat) (tr : Nat → Nat) (th : Int32) (n : Nat) (so : Nat → Nat) (m : Nat) (ts : Nat → Nat → Nat) (sh : Int32) (ow ot : Nat → Int32) (sz : Nat) (x y : Int32) (h : ¬ vp_in x n ∨ ¬ vp_in y 2) (hn : n ≤ 40) (hm : m ≤ 5) (hd : xMd mo aS aT aW aO tr) (hso : ∀ k, so k < 5) (hts9 : ∀ e k, ts e k ≤ 9) : Met l yX4_told (ws_ yX4_told cX4_told 3 (some .int)) ({ frames := 7, cells := 0, slots := 0, locals := 280 } : Room) (xPre E (fun q => xMF mo aS aT aW aO tr q ∨ sz ≤ q) [.ref mo, .int x, .int y] (fun H => H.size = sz ∧ xM E mo aS aT aW aO tr th n so m ts sh ow ot H)) (xQ (fun q => xMF mo aS aT aW aO tr q ∨ sz ≤ q) (fun v H => v = .int (nI 0) ∧ xM E mo aS aT aW aO tr (nI 1) n so m ts sh ow ot H)) 0 0 (fun q => xMF mo aS aT aW aO tr q ∨ sz ≤ q) := by
  refine Met.ofW (cc := cX4_told) (maxL := 3) (ret := (some .int)) (by decide) rfl ?_
  intro P0 e0 s m0 args below meth c0 s₁ B hml hv
  obtain ⟨rfl, hE, hsz, hM⟩ := hv
  have hx := B.exec
  have hb := B.bytes
  have hr := B.returns
  have hts := atoms_spec (ws := ws_ yX4_told cX4_told 3 (some .int)) B.pre
  have hts : ∀ w ∈ lw_all, w.before _ s = true := fun w h => hts w (List.mem_cons_of_mem _ h)
  have hown : s.vm.findClass RX4 = some m0.cls := findClass_of_methodNamed B.named
  have hlocks := B.notSynchronized
  have hS : va_S (fun q => xMF mo aS aT aW aO tr q ∨ sz ≤ q) s.heap s.heap [] := va_S.rf
  have hl := lv_entry ([.ref mo, .int x, .int y]) (n := 3) (Nat.le_of_ble_eq_true rfl)
  rw [lg_entry_eq]
  generalize (lg_sl ([.ref mo, .int x, .int y]) ++ List.replicate (3 - (lg_sl ([.ref mo, .int x, .int y])).length) Slot.unset).toArray = ls at hl ⊢
  have hl : lv_has ls 3 [(0, .ref mo), (1, .int x), (2, .int y)] := hl
  refine lv_aload_n hx hb dX4_told_0 rfl (lv_at hl 0 rfl) ?_
  refine lv_iconst (v := (nI 0)) hx hb dX4_told_1 (by decide) ?_
  refine xr_put hx hb hts in_X4 tyX4 tyX4_ok nmX4 hown hE hS (Or.inl (Or.inl (Or.inl rfl))) ((hM).1.1) rfl 0 (by decide) (hts _ q787) (fun _ h => h) rfl (ty := tyX4 0) (by decide) rfl rfl (Nat.le_of_ble_eq_true rfl) dX4_told_2 (fun H_1 L_2 hO_ hz_3 ho_4 hS => ?_)
  have hO_ : xO E mo 3 [.int (nI 0), .int (nI n), .ref aS, .int (nI m), .ref aT, .int sh, .ref aW, .ref aO] H_1 := hO_
  have hM := hM.put hd hO_ (fun q _ h => ho_4 q h)
  refine lv_aload_n hx hb dX4_told_5 rfl (lv_at hl 0 rfl) ?_
  refine lv_iload_n hx hb dX4_told_6 rfl (lv_at hl 1 rfl) ?_
  by_cases h1 : vp_in x n
  · refine xr_ro (va_runV (As := [.int x]) (rest := []) ⟨hx, hb, hml, hown, hts⟩ (mt_isSlice_t l E (fun q => xMF mo aS aT aW aO tr q ∨ sz ≤ q) mo aS aT aW aO tr (nI 0) n so m ts sh x hn hm h1) (cwV 1 hts (lw_V q831 q833 qs14 q44 q834) rfl rfl rfl (by decide +kernel) ⟨Nat.le_of_ble_eq_true rfl, Nat.le_of_ble_eq_true rfl⟩) ⟨xPre_blind, ((hM).1.1).recv hE rfl, fun U hU hW => xPre_at hE hS (fun _ h => h) hM.1 hU hW⟩ rfl rfl hl.1 rfl (lv_room (Nat.le_of_ble_eq_true rfl)) dX4_told_7 ⟨(show 0 + 0 ≤ 0 by omega), (show 0 + 0 ≤ 0 by omega)⟩) ?_
    refine xr_zeq (tgt := 44) hx hb dX4_told_10 (by decide) (by omega) (fun c_ => absurd c_ (by omega)) (fun c_ => ?_)
    refine lv_iload_n hx hb dX4_told_13 rfl (lv_at hl 2 rfl) ?_
    refine lv_iconst (v := (nI 0)) hx hb dX4_told_14 (by decide) ?_
    refine lv_iconst (v := (nI 1)) hx hb dX4_told_15 (by decide) ?_
    refine xr_ro (va_runS (As := [.int y, .int (nI 0), .int (nI 1)]) (rest := []) ⟨hx, hb, hml, hown, hts⟩ (mt_isIn_f l E (fun q => xMF mo aS aT aW aO tr q ∨ sz ≤ q) y (nI 0) (nI 1) (in_f (m := 2) (h.resolve_left (fun q => q h1)) (by omega))) (va_cwS 3 hts (lw_S q820 q821 q44 q822) rfl rfl rfl (by decide +kernel) ⟨Nat.le_of_ble_eq_true rfl, Nat.le_of_ble_eq_true rfl⟩) ⟨xPre_blind, fun U hU hW => xPre_at hE hS (fun _ h => h) trivial hU hW⟩ rfl rfl hl.1 rfl (lv_room (Nat.le_of_ble_eq_true rfl)) dX4_told_16 ⟨(show 0 + 0 ≤ 0 by omega), (show 0 + 0 ≤ 0 by omega)⟩) ?_
    refine xr_zeq (tgt := 44) hx hb dX4_told_19 (by decide) (by omega) (fun c_ => ?_) (fun c_ => absurd c_ (by omega))
    refine lv_aload_n hx hb dX4_told_44 rfl (lv_at hl 0 rfl) ?_
    refine lv_iconst (v := (nI 1)) hx hb dX4_told_45 (by decide) ?_
    refine xr_mu (va_runV (As := [.int (nI 1)]) (rest := []) ⟨hx, hb, hml, hown, hts⟩ (mt_no l E mo aS aT aW aO (nI 0) n m sh 1) (cwV 1 hts (lw_V q823 q825 qs13 q44 q826) rfl rfl rfl (by decide +kernel) ⟨Nat.le_of_ble_eq_true rfl, Nat.le_of_ble_eq_true rfl⟩) ⟨xPre_blind, ((hM).1.1).recv hE rfl, fun U hU hW => xPre_at hE hS (fun q h => Or.inl (Or.inl (Or.inl h))) hM.1.1 hU hW⟩ rfl rfl hl.1 rfl (lv_room (Nat.le_of_ble_eq_true rfl)) dX4_told_46 ⟨(show 0 + 0 ≤ 0 by omega), (show 0 + 0 ≤ 0 by omega)⟩) hS (fun q h => Or.inl (Or.inl (Or.inl h))) (fun q h => Or.inl (Or.inl (Or.inl h))) (fun vv H_5 L_6 hP_ hz_7 hk_8 hS => ?_)
    obtain ⟨hv_, hO_⟩ := hP_
    subst hv_
    have hM := hM.put hd hO_ (fun q h1 h2 => hk_8 q h1 h2)
    exact W.iret hx hb hr (fun t ht hW => ⟨⟨_, rfl, by rw [ht]; exact ⟨rfl, hM⟩⟩, hS.F ht⟩) hS.2.2 dX4_told_49
  · refine xr_ro (va_runV (As := [.int x]) (rest := []) ⟨hx, hb, hml, hown, hts⟩ (mt_isSlice_f l E (fun q => xMF mo aS aT aW aO tr q ∨ sz ≤ q) mo aS aT aW aO tr (nI 0) n so m ts sh x hn hm h1) (cwV 1 hts (lw_V q831 q833 qs14 q44 q834) rfl rfl rfl (by decide +kernel) ⟨Nat.le_of_ble_eq_true rfl, Nat.le_of_ble_eq_true rfl⟩) ⟨xPre_blind, ((hM).1.1).recv hE rfl, fun U hU hW => xPre_at hE hS (fun _ h => h) hM.1 hU hW⟩ rfl rfl hl.1 rfl (lv_room (Nat.le_of_ble_eq_true rfl)) dX4_told_7 ⟨(show 0 + 0 ≤ 0 by omega), (show 0 + 0 ≤ 0 by omega)⟩) ?_
    refine xr_zeq (tgt := 44) hx hb dX4_told_10 (by decide) (by omega) (fun c_ => ?_) (fun c_ => absurd c_ (by omega))
    refine lv_aload_n hx hb dX4_told_44 rfl (lv_at hl 0 rfl) ?_
    refine lv_iconst (v := (nI 1)) hx hb dX4_told_45 (by decide) ?_
    refine xr_mu (va_runV (As := [.int (nI 1)]) (rest := []) ⟨hx, hb, hml, hown, hts⟩ (mt_no l E mo aS aT aW aO (nI 0) n m sh 1) (cwV 1 hts (lw_V q823 q825 qs13 q44 q826) rfl rfl rfl (by decide +kernel) ⟨Nat.le_of_ble_eq_true rfl, Nat.le_of_ble_eq_true rfl⟩) ⟨xPre_blind, ((hM).1.1).recv hE rfl, fun U hU hW => xPre_at hE hS (fun q h => Or.inl (Or.inl (Or.inl h))) hM.1.1 hU hW⟩ rfl rfl hl.1 rfl (lv_room (Nat.le_of_ble_eq_true rfl)) dX4_told_46 ⟨(show 0 + 0 ≤ 0 by omega), (show 0 + 0 ≤ 0 by omega)⟩) hS (fun q h => Or.inl (Or.inl (Or.inl h))) (fun q h => Or.inl (Or.inl (Or.inl h))) (fun vv H_9 L_10 hP_ hz_11 hk_12 hS => ?_)
    obtain ⟨hv_, hO_⟩ := hP_
    subst hv_
    have hM := hM.put hd hO_ (fun q h1 h2 => hk_12 q h1 h2)
    exact W.iret hx hb hr (fun t ht hW => ⟨⟨_, rfl, by rw [ht]; exact ⟨rfl, hM⟩⟩, hS.F ht⟩) hS.2.2 dX4_told_49

set_option maxHeartbeats 4000000 in
set_option maxRecDepth 100000 in
theorem mt_worth2_ok (l : Launch) (E : xG) (mo aS aT aW aO : Nat) (tr : Nat → Nat) (th : Int32) (n : Nat) (so : Nat → Nat) (m : Nat) (ts : Nat → Nat → Nat) (sh : Int32) (ow ot : Nat → Int32) (sz : Nat) (e o : Nat) (he : e < m) (ho : o < m) (hn : n ≤ 40) (hm : m ≤ 5) (hd : xMd mo aS aT aW aO tr) (hso : ∀ k, so k < 5) (hts9 : ∀ e k, ts e k ≤ 9) : Met l yX4_worth_2 (ws_ yX4_worth_2 cX4_worth_2 3 (some .int)) ({ frames := 7, cells := 0, slots := 0, locals := 280 } : Room) (xPre E (fun q => xMF mo aS aT aW aO tr q ∨ sz ≤ q) [.ref mo, .int (nI e), .int (nI o)] (fun H => H.size = sz ∧ xM E mo aS aT aW aO tr th n so m ts sh ow ot H)) (xQ (fun q => xMF mo aS aT aW aO tr q ∨ sz ≤ q) (fun v H => v = .int (nI (wo (tk ts so e) ow (nI o) n)) ∧ xM E mo aS aT aW aO tr (nI 0) n so m ts sh ow ot H)) 0 0 (fun q => xMF mo aS aT aW aO tr q ∨ sz ≤ q) := by
  refine Met.ofW (cc := cX4_worth_2) (maxL := 3) (ret := (some .int)) (by decide) rfl ?_
  intro P0 e0 s m0 args below meth c0 s₁ B hml hv
  obtain ⟨rfl, hE, hsz, hM⟩ := hv
  have hx := B.exec
  have hb := B.bytes
  have hr := B.returns
  have hts := atoms_spec (ws := ws_ yX4_worth_2 cX4_worth_2 3 (some .int)) B.pre
  have hts : ∀ w ∈ lw_all, w.before _ s = true := fun w h => hts w (List.mem_cons_of_mem _ h)
  have hown : s.vm.findClass RX4 = some m0.cls := findClass_of_methodNamed B.named
  have hlocks := B.notSynchronized
  have hS : va_S (fun q => xMF mo aS aT aW aO tr q ∨ sz ≤ q) s.heap s.heap [] := va_S.rf
  have hl := lv_entry ([.ref mo, .int (nI e), .int (nI o)]) (n := 3) (Nat.le_of_ble_eq_true rfl)
  rw [lg_entry_eq]
  generalize (lg_sl ([.ref mo, .int (nI e), .int (nI o)]) ++ List.replicate (3 - (lg_sl ([.ref mo, .int (nI e), .int (nI o)])).length) Slot.unset).toArray = ls at hl ⊢
  have hl : lv_has ls 3 [(0, .ref mo), (1, .int (nI e)), (2, .int (nI o))] := hl
  refine lv_aload_n hx hb dX4_worth_2_0 rfl (lv_at hl 0 rfl) ?_
  refine lv_iconst (v := (nI 0)) hx hb dX4_worth_2_1 (by decide) ?_
  refine xr_put hx hb hts in_X4 tyX4 tyX4_ok nmX4 hown hE hS (Or.inl (Or.inl (Or.inl rfl))) ((hM).1.1) rfl 0 (by decide) (hts _ q787) (fun _ h => h) rfl (ty := tyX4 0) (by decide) rfl rfl (Nat.le_of_ble_eq_true rfl) dX4_worth_2_2 (fun H_1 L_2 hO_ hz_3 ho_4 hS => ?_)
  have hO_ : xO E mo 3 [.int (nI 0), .int (nI n), .ref aS, .int (nI m), .ref aT, .int sh, .ref aW, .ref aO] H_1 := hO_
  have hM := hM.put hd hO_ (fun q _ h => ho_4 q h)
  refine lv_aload_n hx hb dX4_worth_2_5 rfl (lv_at hl 0 rfl) ?_
  refine lv_iload_n hx hb dX4_worth_2_6 rfl (lv_at hl 1 rfl) ?_
  refine xr_ro (va_runV (As := [.int (nI e)]) (rest := []) ⟨hx, hb, hml, hown, hts⟩ (mt_isEater_t l E (fun q => xMF mo aS aT aW aO tr q ∨ sz ≤ q) mo aS aT aW aO tr (nI 0) n so m ts sh (nI e) hn hm (vp_in_nI he (by omega))) (cwV 1 hts (lw_V q846 q848 qs15 q44 q849) rfl rfl rfl (by decide +kernel) ⟨Nat.le_of_ble_eq_true rfl, Nat.le_of_ble_eq_true rfl⟩) ⟨xPre_blind, ((hM).1.1).recv hE rfl, fun U hU hW => xPre_at hE hS (fun _ h => h) hM.1 hU hW⟩ rfl rfl hl.1 rfl (lv_room (Nat.le_of_ble_eq_true rfl)) dX4_worth_2_7 ⟨(show 0 + 0 ≤ 0 by omega), (show 0 + 0 ≤ 0 by omega)⟩) ?_
  refine xr_zeq (tgt := 34) hx hb dX4_worth_2_10 (by decide) (by omega) (fun c_ => absurd c_ (by omega)) (fun c_ => ?_)
  refine lv_aload_n hx hb dX4_worth_2_13 rfl (lv_at hl 0 rfl) ?_
  refine lv_iload_n hx hb dX4_worth_2_14 rfl (lv_at hl 2 rfl) ?_
  refine xr_ro (va_runV (As := [.int (nI o)]) (rest := []) ⟨hx, hb, hml, hown, hts⟩ (mt_isEater_t l E (fun q => xMF mo aS aT aW aO tr q ∨ sz ≤ q) mo aS aT aW aO tr (nI 0) n so m ts sh (nI o) hn hm (vp_in_nI ho (by omega))) (cwV 1 hts (lw_V q846 q848 qs15 q44 q849) rfl rfl rfl (by decide +kernel) ⟨Nat.le_of_ble_eq_true rfl, Nat.le_of_ble_eq_true rfl⟩) ⟨xPre_blind, ((hM).1.1).recv hE rfl, fun U hU hW => xPre_at hE hS (fun _ h => h) hM.1 hU hW⟩ rfl rfl hl.1 rfl (lv_room (Nat.le_of_ble_eq_true rfl)) dX4_worth_2_15 ⟨(show 0 + 0 ≤ 0 by omega), (show 0 + 0 ≤ 0 by omega)⟩) ?_
  refine xr_zeq (tgt := 34) hx hb dX4_worth_2_18 (by decide) (by omega) (fun c_ => absurd c_ (by omega)) (fun c_ => ?_)
  refine lv_aload_n hx hb dX4_worth_2_21 rfl (lv_at hl 0 rfl) ?_
  refine lv_aload_n hx hb dX4_worth_2_22 rfl (lv_at hl 0 rfl) ?_
  refine xr_get hx hb hts in_X4 hown hE ((hM).1.1) rfl 6 (by decide) (hts _ q793) (fun _ h => h) rfl dX4_worth_2_23 ?_
  refine lv_iload_n hx hb dX4_worth_2_26 rfl (lv_at hl 1 rfl) ?_
  refine lv_iload_n hx hb dX4_worth_2_27 rfl (lv_at hl 2 rfl) ?_
  refine xr_ro (va_runV (As := [.ref aW, .int (nI e), .int (nI o)]) (rest := []) ⟨hx, hb, hml, hown, hts⟩ (mt_worth l E (fun q => xMF mo aS aT aW aO tr q ∨ sz ≤ q) mo aS aT aW aO tr (nI 0) n so m ts sh aW ow e (nI o) (by omega) hn hso) (cwV 3 hts (lw_V q908 q910 qs25 q44 q911) rfl rfl rfl (by decide +kernel) ⟨Nat.le_of_ble_eq_true rfl, Nat.le_of_ble_eq_true rfl⟩) ⟨xPre_blind, ((hM).1.1).recv hE rfl, fun U hU hW => xPre_at hE hS (fun _ h => h) (⟨hM.1, hM.2.1⟩) hU hW⟩ rfl rfl hl.1 rfl (lv_room (Nat.le_of_ble_eq_true rfl)) dX4_worth_2_28 ⟨(show 0 + 0 ≤ 0 by omega), (show 0 + 0 ≤ 0 by omega)⟩) ?_
  refine lv_goto (tgt := 39) hx hb dX4_worth_2_31 (by decide) ?_
  exact W.iret hx hb hr (fun t ht hW => ⟨⟨_, rfl, by rw [ht]; exact ⟨rfl, hM⟩⟩, hS.F ht⟩) hS.2.2 dX4_worth_2_39

set_option maxHeartbeats 4000000 in
set_option maxRecDepth 100000 in
theorem mt_worth2_no (l : Launch) (E : xG) (mo aS aT aW aO : Nat) (tr : Nat → Nat) (th : Int32) (n : Nat) (so : Nat → Nat) (m : Nat) (ts : Nat → Nat → Nat) (sh : Int32) (ow ot : Nat → Int32) (sz : Nat) (x y : Int32) (h : ¬ vp_in x m ∨ ¬ vp_in y m) (hn : n ≤ 40) (hm : m ≤ 5) (hd : xMd mo aS aT aW aO tr) (hso : ∀ k, so k < 5) (hts9 : ∀ e k, ts e k ≤ 9) : Met l yX4_worth_2 (ws_ yX4_worth_2 cX4_worth_2 3 (some .int)) ({ frames := 7, cells := 0, slots := 0, locals := 280 } : Room) (xPre E (fun q => xMF mo aS aT aW aO tr q ∨ sz ≤ q) [.ref mo, .int x, .int y] (fun H => H.size = sz ∧ xM E mo aS aT aW aO tr th n so m ts sh ow ot H)) (xQ (fun q => xMF mo aS aT aW aO tr q ∨ sz ≤ q) (fun v H => v = .int (nI 0) ∧ xM E mo aS aT aW aO tr (nI 1) n so m ts sh ow ot H)) 0 0 (fun q => xMF mo aS aT aW aO tr q ∨ sz ≤ q) := by
  refine Met.ofW (cc := cX4_worth_2) (maxL := 3) (ret := (some .int)) (by decide) rfl ?_
  intro P0 e0 s m0 args below meth c0 s₁ B hml hv
  obtain ⟨rfl, hE, hsz, hM⟩ := hv
  have hx := B.exec
  have hb := B.bytes
  have hr := B.returns
  have hts := atoms_spec (ws := ws_ yX4_worth_2 cX4_worth_2 3 (some .int)) B.pre
  have hts : ∀ w ∈ lw_all, w.before _ s = true := fun w h => hts w (List.mem_cons_of_mem _ h)
  have hown : s.vm.findClass RX4 = some m0.cls := findClass_of_methodNamed B.named
  have hlocks := B.notSynchronized
  have hS : va_S (fun q => xMF mo aS aT aW aO tr q ∨ sz ≤ q) s.heap s.heap [] := va_S.rf
  have hl := lv_entry ([.ref mo, .int x, .int y]) (n := 3) (Nat.le_of_ble_eq_true rfl)
  rw [lg_entry_eq]
  generalize (lg_sl ([.ref mo, .int x, .int y]) ++ List.replicate (3 - (lg_sl ([.ref mo, .int x, .int y])).length) Slot.unset).toArray = ls at hl ⊢
  have hl : lv_has ls 3 [(0, .ref mo), (1, .int x), (2, .int y)] := hl
  refine lv_aload_n hx hb dX4_worth_2_0 rfl (lv_at hl 0 rfl) ?_
  refine lv_iconst (v := (nI 0)) hx hb dX4_worth_2_1 (by decide) ?_
  refine xr_put hx hb hts in_X4 tyX4 tyX4_ok nmX4 hown hE hS (Or.inl (Or.inl (Or.inl rfl))) ((hM).1.1) rfl 0 (by decide) (hts _ q787) (fun _ h => h) rfl (ty := tyX4 0) (by decide) rfl rfl (Nat.le_of_ble_eq_true rfl) dX4_worth_2_2 (fun H_1 L_2 hO_ hz_3 ho_4 hS => ?_)
  have hO_ : xO E mo 3 [.int (nI 0), .int (nI n), .ref aS, .int (nI m), .ref aT, .int sh, .ref aW, .ref aO] H_1 := hO_
  have hM := hM.put hd hO_ (fun q _ h => ho_4 q h)
  refine lv_aload_n hx hb dX4_worth_2_5 rfl (lv_at hl 0 rfl) ?_
  refine lv_iload_n hx hb dX4_worth_2_6 rfl (lv_at hl 1 rfl) ?_
  by_cases h1 : vp_in x m
  · refine xr_ro (va_runV (As := [.int x]) (rest := []) ⟨hx, hb, hml, hown, hts⟩ (mt_isEater_t l E (fun q => xMF mo aS aT aW aO tr q ∨ sz ≤ q) mo aS aT aW aO tr (nI 0) n so m ts sh x hn hm h1) (cwV 1 hts (lw_V q846 q848 qs15 q44 q849) rfl rfl rfl (by decide +kernel) ⟨Nat.le_of_ble_eq_true rfl, Nat.le_of_ble_eq_true rfl⟩) ⟨xPre_blind, ((hM).1.1).recv hE rfl, fun U hU hW => xPre_at hE hS (fun _ h => h) hM.1 hU hW⟩ rfl rfl hl.1 rfl (lv_room (Nat.le_of_ble_eq_true rfl)) dX4_worth_2_7 ⟨(show 0 + 0 ≤ 0 by omega), (show 0 + 0 ≤ 0 by omega)⟩) ?_
    refine xr_zeq (tgt := 34) hx hb dX4_worth_2_10 (by decide) (by omega) (fun c_ => absurd c_ (by omega)) (fun c_ => ?_)
    refine lv_aload_n hx hb dX4_worth_2_13 rfl (lv_at hl 0 rfl) ?_
    refine lv_iload_n hx hb dX4_worth_2_14 rfl (lv_at hl 2 rfl) ?_
    refine xr_ro (va_runV (As := [.int y]) (rest := []) ⟨hx, hb, hml, hown, hts⟩ (mt_isEater_f l E (fun q => xMF mo aS aT aW aO tr q ∨ sz ≤ q) mo aS aT aW aO tr (nI 0) n so m ts sh y hn hm (h.resolve_left (fun q => q h1))) (cwV 1 hts (lw_V q846 q848 qs15 q44 q849) rfl rfl rfl (by decide +kernel) ⟨Nat.le_of_ble_eq_true rfl, Nat.le_of_ble_eq_true rfl⟩) ⟨xPre_blind, ((hM).1.1).recv hE rfl, fun U hU hW => xPre_at hE hS (fun _ h => h) hM.1 hU hW⟩ rfl rfl hl.1 rfl (lv_room (Nat.le_of_ble_eq_true rfl)) dX4_worth_2_15 ⟨(show 0 + 0 ≤ 0 by omega), (show 0 + 0 ≤ 0 by omega)⟩) ?_
    refine xr_zeq (tgt := 34) hx hb dX4_worth_2_18 (by decide) (by omega) (fun c_ => ?_) (fun c_ => absurd c_ (by omega))
    refine lv_aload_n hx hb dX4_worth_2_34 rfl (lv_at hl 0 rfl) ?_
    refine lv_iconst (v := (nI 1)) hx hb dX4_worth_2_35 (by decide) ?_
    refine xr_mu (va_runV (As := [.int (nI 1)]) (rest := []) ⟨hx, hb, hml, hown, hts⟩ (mt_no l E mo aS aT aW aO (nI 0) n m sh 1) (cwV 1 hts (lw_V q823 q825 qs13 q44 q826) rfl rfl rfl (by decide +kernel) ⟨Nat.le_of_ble_eq_true rfl, Nat.le_of_ble_eq_true rfl⟩) ⟨xPre_blind, ((hM).1.1).recv hE rfl, fun U hU hW => xPre_at hE hS (fun q h => Or.inl (Or.inl (Or.inl h))) hM.1.1 hU hW⟩ rfl rfl hl.1 rfl (lv_room (Nat.le_of_ble_eq_true rfl)) dX4_worth_2_36 ⟨(show 0 + 0 ≤ 0 by omega), (show 0 + 0 ≤ 0 by omega)⟩) hS (fun q h => Or.inl (Or.inl (Or.inl h))) (fun q h => Or.inl (Or.inl (Or.inl h))) (fun vv H_5 L_6 hP_ hz_7 hk_8 hS => ?_)
    obtain ⟨hv_, hO_⟩ := hP_
    subst hv_
    have hM := hM.put hd hO_ (fun q h1 h2 => hk_8 q h1 h2)
    exact W.iret hx hb hr (fun t ht hW => ⟨⟨_, rfl, by rw [ht]; exact ⟨rfl, hM⟩⟩, hS.F ht⟩) hS.2.2 dX4_worth_2_39
  · refine xr_ro (va_runV (As := [.int x]) (rest := []) ⟨hx, hb, hml, hown, hts⟩ (mt_isEater_f l E (fun q => xMF mo aS aT aW aO tr q ∨ sz ≤ q) mo aS aT aW aO tr (nI 0) n so m ts sh x hn hm h1) (cwV 1 hts (lw_V q846 q848 qs15 q44 q849) rfl rfl rfl (by decide +kernel) ⟨Nat.le_of_ble_eq_true rfl, Nat.le_of_ble_eq_true rfl⟩) ⟨xPre_blind, ((hM).1.1).recv hE rfl, fun U hU hW => xPre_at hE hS (fun _ h => h) hM.1 hU hW⟩ rfl rfl hl.1 rfl (lv_room (Nat.le_of_ble_eq_true rfl)) dX4_worth_2_7 ⟨(show 0 + 0 ≤ 0 by omega), (show 0 + 0 ≤ 0 by omega)⟩) ?_
    refine xr_zeq (tgt := 34) hx hb dX4_worth_2_10 (by decide) (by omega) (fun c_ => ?_) (fun c_ => absurd c_ (by omega))
    refine lv_aload_n hx hb dX4_worth_2_34 rfl (lv_at hl 0 rfl) ?_
    refine lv_iconst (v := (nI 1)) hx hb dX4_worth_2_35 (by decide) ?_
    refine xr_mu (va_runV (As := [.int (nI 1)]) (rest := []) ⟨hx, hb, hml, hown, hts⟩ (mt_no l E mo aS aT aW aO (nI 0) n m sh 1) (cwV 1 hts (lw_V q823 q825 qs13 q44 q826) rfl rfl rfl (by decide +kernel) ⟨Nat.le_of_ble_eq_true rfl, Nat.le_of_ble_eq_true rfl⟩) ⟨xPre_blind, ((hM).1.1).recv hE rfl, fun U hU hW => xPre_at hE hS (fun q h => Or.inl (Or.inl (Or.inl h))) hM.1.1 hU hW⟩ rfl rfl hl.1 rfl (lv_room (Nat.le_of_ble_eq_true rfl)) dX4_worth_2_36 ⟨(show 0 + 0 ≤ 0 by omega), (show 0 + 0 ≤ 0 by omega)⟩) hS (fun q h => Or.inl (Or.inl (Or.inl h))) (fun q h => Or.inl (Or.inl (Or.inl h))) (fun vv H_9 L_10 hP_ hz_11 hk_12 hS => ?_)
    obtain ⟨hv_, hO_⟩ := hP_
    subst hv_
    have hM := hM.put hd hO_ (fun q h1 h2 => hk_12 q h1 h2)
    exact W.iret hx hb hr (fun t ht hW => ⟨⟨_, rfl, by rw [ht]; exact ⟨rfl, hM⟩⟩, hS.F ht⟩) hS.2.2 dX4_worth_2_39

set_option maxHeartbeats 4000000 in
set_option maxRecDepth 100000 in
theorem mt_about_ok (l : Launch) (E : xG) (mo aS aT aW aO : Nat) (tr : Nat → Nat) (th : Int32) (n : Nat) (so : Nat → Nat) (m : Nat) (ts : Nat → Nat → Nat) (sh : Int32) (ow ot : Nat → Int32) (sz : Nat) (e w : Nat) (he : e < m) (hw : w < 6) (hn : n ≤ 40) (hm : m ≤ 5) (hd : xMd mo aS aT aW aO tr) (hso : ∀ k, so k < 5) (hts9 : ∀ e k, ts e k ≤ 9) : Met l yX4_about (ws_ yX4_about cX4_about 3 (some .int)) ({ frames := 7, cells := 1, slots := 6, locals := 280 } : Room) (xPre E (fun q => xMF mo aS aT aW aO tr q ∨ sz ≤ q) [.ref mo, .int (nI e), .int (nI w)] (fun H => H.size = sz ∧ xM E mo aS aT aW aO tr th n so m ts sh ow ot H)) (xQ (fun q => xMF mo aS aT aW aO tr q ∨ sz ≤ q) (fun v H => v = .int (nI (tld (tk ts so) ow n m e w)) ∧ xM E mo aS aT aW aO tr (nI 0) n so m ts sh ow ot H)) 1 6 (fun q => xMF mo aS aT aW aO tr q ∨ sz ≤ q) := by
  refine Met.ofW (cc := cX4_about) (maxL := 3) (ret := (some .int)) (by decide) rfl ?_
  intro P0 e0 s m0 args below meth c0 s₁ B hml hv
  obtain ⟨rfl, hE, hsz, hM⟩ := hv
  have hx := B.exec
  have hb := B.bytes
  have hr := B.returns
  have hts := atoms_spec (ws := ws_ yX4_about cX4_about 3 (some .int)) B.pre
  have hts : ∀ w ∈ lw_all, w.before _ s = true := fun w h => hts w (List.mem_cons_of_mem _ h)
  have hown : s.vm.findClass RX4 = some m0.cls := findClass_of_methodNamed B.named
  have hlocks := B.notSynchronized
  have hS : va_S (fun q => xMF mo aS aT aW aO tr q ∨ sz ≤ q) s.heap s.heap [] := va_S.rf
  have hl := lv_entry ([.ref mo, .int (nI e), .int (nI w)]) (n := 3) (Nat.le_of_ble_eq_true rfl)
  rw [lg_entry_eq]
  generalize (lg_sl ([.ref mo, .int (nI e), .int (nI w)]) ++ List.replicate (3 - (lg_sl ([.ref mo, .int (nI e), .int (nI w)])).length) Slot.unset).toArray = ls at hl ⊢
  have hl : lv_has ls 3 [(0, .ref mo), (1, .int (nI e)), (2, .int (nI w))] := hl
  refine lv_aload_n hx hb dX4_about_0 rfl (lv_at hl 0 rfl) ?_
  refine lv_iconst (v := (nI 0)) hx hb dX4_about_1 (by decide) ?_
  refine xr_put hx hb hts in_X4 tyX4 tyX4_ok nmX4 hown hE hS (Or.inl (Or.inl (Or.inl rfl))) ((hM).1.1) rfl 0 (by decide) (hts _ q787) (fun _ h => h) rfl (ty := tyX4 0) (by decide) rfl rfl (Nat.le_of_ble_eq_true rfl) dX4_about_2 (fun H_1 L_2 hO_ hz_3 ho_4 hS => ?_)
  have hO_ : xO E mo 3 [.int (nI 0), .int (nI n), .ref aS, .int (nI m), .ref aT, .int sh, .ref aW, .ref aO] H_1 := hO_
  have hM := hM.put hd hO_ (fun q _ h => ho_4 q h)
  refine lv_aload_n hx hb dX4_about_5 rfl (lv_at hl 0 rfl) ?_
  refine lv_iload_n hx hb dX4_about_6 rfl (lv_at hl 1 rfl) ?_
  refine xr_ro (va_runV (As := [.int (nI e)]) (rest := []) ⟨hx, hb, hml, hown, hts⟩ (mt_isEater_t l E (fun q => xMF mo aS aT aW aO tr q ∨ sz ≤ q) mo aS aT aW aO tr (nI 0) n so m ts sh (nI e) hn hm (vp_in_nI he (by omega))) (cwV 1 hts (lw_V q846 q848 qs15 q44 q849) rfl rfl rfl (by decide +kernel) ⟨Nat.le_of_ble_eq_true rfl, Nat.le_of_ble_eq_true rfl⟩) ⟨xPre_blind, ((hM).1.1).recv hE rfl, fun U hU hW => xPre_at hE hS (fun _ h => h) hM.1 hU hW⟩ rfl rfl hl.1 rfl (lv_room (Nat.le_of_ble_eq_true rfl)) dX4_about_7 ⟨(show 0 + 0 ≤ 1 by omega), (show 0 + 0 ≤ 6 by omega)⟩) ?_
  refine xr_zeq (tgt := 31) hx hb dX4_about_10 (by decide) (by omega) (fun c_ => absurd c_ (by omega)) (fun c_ => ?_)
  refine lv_iload_n hx hb dX4_about_13 rfl (lv_at hl 2 rfl) ?_
  refine lv_iconst (v := (nI 0)) hx hb dX4_about_14 (by decide) ?_
  refine lv_iconst (v := (nI 5)) hx hb dX4_about_15 (by decide) ?_
  refine xr_ro (va_runS (As := [.int (nI w), .int (nI 0), .int (nI 5)]) (rest := []) ⟨hx, hb, hml, hown, hts⟩ (mt_isIn_t l E (fun q => xMF mo aS aT aW aO tr q ∨ sz ≤ q) (nI w) (nI 0) (nI 5) (nI_le (by omega) (by omega)) (nI_le (by omega) (by omega))) (va_cwS 3 hts (lw_S q820 q821 q44 q822) rfl rfl rfl (by decide +kernel) ⟨Nat.le_of_ble_eq_true rfl, Nat.le_of_ble_eq_true rfl⟩) ⟨xPre_blind, fun U hU hW => xPre_at hE hS (fun _ h => h) trivial hU hW⟩ rfl rfl hl.1 rfl (lv_room (Nat.le_of_ble_eq_true rfl)) dX4_about_16 ⟨(show 0 + 0 ≤ 1 by omega), (show 0 + 0 ≤ 6 by omega)⟩) ?_
  refine xr_zeq (tgt := 31) hx hb dX4_about_19 (by decide) (by omega) (fun c_ => absurd c_ (by omega)) (fun c_ => ?_)
  refine lv_aload_n hx hb dX4_about_22 rfl (lv_at hl 0 rfl) ?_
  refine lv_iload_n hx hb dX4_about_23 rfl (lv_at hl 1 rfl) ?_
  refine lv_iload_n hx hb dX4_about_24 rfl (lv_at hl 2 rfl) ?_
  refine xr_mu (va_runV (As := [.int (nI e), .int (nI w)]) (rest := []) ⟨hx, hb, hml, hown, hts⟩ (mt_eaterTold l E mo aS aT aW aO tr (nI 0) n so m ts sh ow H_1.size e w (by omega) hw hn hm hso hts9) (cwV 2 hts (lw_V q932 q934 qs27 q44 q935) rfl rfl rfl (by decide +kernel) ⟨Nat.le_of_ble_eq_true rfl, Nat.le_of_ble_eq_true rfl⟩) ⟨xPre_blind, ((hM).1.1).recv hE rfl, fun U hU hW => xPre_at hE hS (fun q h => Or.inr (Nat.le_trans (by have := hS.1; omega) h)) (⟨rfl, hM.1, hM.2.1⟩) hU hW⟩ rfl rfl hl.1 rfl (lv_room (Nat.le_of_ble_eq_true rfl)) dX4_about_25 ⟨(show 0 + 1 ≤ 1 by omega), (show 0 + 6 ≤ 6 by omega)⟩) hS (fun q h => Or.inr (Nat.le_trans (by have := hS.1; omega) h)) (fun q h => Or.inr (Nat.le_trans (by have := hS.1; omega) h)) (fun vv H_5 L_6 hP_ hz_7 hk_8 hS => ?_)
  have hv_ := hP_
  subst hv_
  have hM := hM.kept (fun q hq => hk_8 q (hM.lt hq) (Nat.not_le.mpr (hM.lt hq)))
  refine lv_goto (tgt := 36) hx hb dX4_about_28 (by decide) ?_
  exact W.iret hx hb hr (fun t ht hW => ⟨⟨_, rfl, by rw [ht]; exact ⟨rfl, hM⟩⟩, hS.F ht⟩) hS.2.2 dX4_about_36

set_option maxHeartbeats 4000000 in
set_option maxRecDepth 100000 in
theorem mt_about_no (l : Launch) (E : xG) (mo aS aT aW aO : Nat) (tr : Nat → Nat) (th : Int32) (n : Nat) (so : Nat → Nat) (m : Nat) (ts : Nat → Nat → Nat) (sh : Int32) (ow ot : Nat → Int32) (sz : Nat) (x y : Int32) (h : ¬ vp_in x m ∨ ¬ vp_in y 6) (hn : n ≤ 40) (hm : m ≤ 5) (hd : xMd mo aS aT aW aO tr) (hso : ∀ k, so k < 5) (hts9 : ∀ e k, ts e k ≤ 9) : Met l yX4_about (ws_ yX4_about cX4_about 3 (some .int)) ({ frames := 7, cells := 0, slots := 0, locals := 280 } : Room) (xPre E (fun q => xMF mo aS aT aW aO tr q ∨ sz ≤ q) [.ref mo, .int x, .int y] (fun H => H.size = sz ∧ xM E mo aS aT aW aO tr th n so m ts sh ow ot H)) (xQ (fun q => xMF mo aS aT aW aO tr q ∨ sz ≤ q) (fun v H => v = .int (nI 0) ∧ xM E mo aS aT aW aO tr (nI 1) n so m ts sh ow ot H)) 0 0 (fun q => xMF mo aS aT aW aO tr q ∨ sz ≤ q) := by
  refine Met.ofW (cc := cX4_about) (maxL := 3) (ret := (some .int)) (by decide) rfl ?_
  intro P0 e0 s m0 args below meth c0 s₁ B hml hv
  obtain ⟨rfl, hE, hsz, hM⟩ := hv
  have hx := B.exec
  have hb := B.bytes
  have hr := B.returns
  have hts := atoms_spec (ws := ws_ yX4_about cX4_about 3 (some .int)) B.pre
  have hts : ∀ w ∈ lw_all, w.before _ s = true := fun w h => hts w (List.mem_cons_of_mem _ h)
  have hown : s.vm.findClass RX4 = some m0.cls := findClass_of_methodNamed B.named
  have hlocks := B.notSynchronized
  have hS : va_S (fun q => xMF mo aS aT aW aO tr q ∨ sz ≤ q) s.heap s.heap [] := va_S.rf
  have hl := lv_entry ([.ref mo, .int x, .int y]) (n := 3) (Nat.le_of_ble_eq_true rfl)
  rw [lg_entry_eq]
  generalize (lg_sl ([.ref mo, .int x, .int y]) ++ List.replicate (3 - (lg_sl ([.ref mo, .int x, .int y])).length) Slot.unset).toArray = ls at hl ⊢
  have hl : lv_has ls 3 [(0, .ref mo), (1, .int x), (2, .int y)] := hl
  refine lv_aload_n hx hb dX4_about_0 rfl (lv_at hl 0 rfl) ?_
  refine lv_iconst (v := (nI 0)) hx hb dX4_about_1 (by decide) ?_
  refine xr_put hx hb hts in_X4 tyX4 tyX4_ok nmX4 hown hE hS (Or.inl (Or.inl (Or.inl rfl))) ((hM).1.1) rfl 0 (by decide) (hts _ q787) (fun _ h => h) rfl (ty := tyX4 0) (by decide) rfl rfl (Nat.le_of_ble_eq_true rfl) dX4_about_2 (fun H_1 L_2 hO_ hz_3 ho_4 hS => ?_)
  have hO_ : xO E mo 3 [.int (nI 0), .int (nI n), .ref aS, .int (nI m), .ref aT, .int sh, .ref aW, .ref aO] H_1 := hO_
  have hM := hM.put hd hO_ (fun q _ h => ho_4 q h)
  refine lv_aload_n hx hb dX4_about_5 rfl (lv_at hl 0 rfl) ?_
  refine lv_iload_n hx hb dX4_about_6 rfl (lv_at hl 1 rfl) ?_
  by_cases h1 : vp_in x m
  · refine xr_ro (va_runV (As := [.int x]) (rest := []) ⟨hx, hb, hml, hown, hts⟩ (mt_isEater_t l E (fun q => xMF mo aS aT aW aO tr q ∨ sz ≤ q) mo aS aT aW aO tr (nI 0) n so m ts sh x hn hm h1) (cwV 1 hts (lw_V q846 q848 qs15 q44 q849) rfl rfl rfl (by decide +kernel) ⟨Nat.le_of_ble_eq_true rfl, Nat.le_of_ble_eq_true rfl⟩) ⟨xPre_blind, ((hM).1.1).recv hE rfl, fun U hU hW => xPre_at hE hS (fun _ h => h) hM.1 hU hW⟩ rfl rfl hl.1 rfl (lv_room (Nat.le_of_ble_eq_true rfl)) dX4_about_7 ⟨(show 0 + 0 ≤ 0 by omega), (show 0 + 0 ≤ 0 by omega)⟩) ?_
    refine xr_zeq (tgt := 31) hx hb dX4_about_10 (by decide) (by omega) (fun c_ => absurd c_ (by omega)) (fun c_ => ?_)
    refine lv_iload_n hx hb dX4_about_13 rfl (lv_at hl 2 rfl) ?_
    refine lv_iconst (v := (nI 0)) hx hb dX4_about_14 (by decide) ?_
    refine lv_iconst (v := (nI 5)) hx hb dX4_about_15 (by decide) ?_
    refine xr_ro (va_runS (As := [.int y, .int (nI 0), .int (nI 5)]) (rest := []) ⟨hx, hb, hml, hown, hts⟩ (mt_isIn_f l E (fun q => xMF mo aS aT aW aO tr q ∨ sz ≤ q) y (nI 0) (nI 5) (in_f (m := 6) (h.resolve_left (fun q => q h1)) (by omega))) (va_cwS 3 hts (lw_S q820 q821 q44 q822) rfl rfl rfl (by decide +kernel) ⟨Nat.le_of_ble_eq_true rfl, Nat.le_of_ble_eq_true rfl⟩) ⟨xPre_blind, fun U hU hW => xPre_at hE hS (fun _ h => h) trivial hU hW⟩ rfl rfl hl.1 rfl (lv_room (Nat.le_of_ble_eq_true rfl)) dX4_about_16 ⟨(show 0 + 0 ≤ 0 by omega), (show 0 + 0 ≤ 0 by omega)⟩) ?_
    refine xr_zeq (tgt := 31) hx hb dX4_about_19 (by decide) (by omega) (fun c_ => ?_) (fun c_ => absurd c_ (by omega))
    refine lv_aload_n hx hb dX4_about_31 rfl (lv_at hl 0 rfl) ?_
    refine lv_iconst (v := (nI 1)) hx hb dX4_about_32 (by decide) ?_
    refine xr_mu (va_runV (As := [.int (nI 1)]) (rest := []) ⟨hx, hb, hml, hown, hts⟩ (mt_no l E mo aS aT aW aO (nI 0) n m sh 1) (cwV 1 hts (lw_V q823 q825 qs13 q44 q826) rfl rfl rfl (by decide +kernel) ⟨Nat.le_of_ble_eq_true rfl, Nat.le_of_ble_eq_true rfl⟩) ⟨xPre_blind, ((hM).1.1).recv hE rfl, fun U hU hW => xPre_at hE hS (fun q h => Or.inl (Or.inl (Or.inl h))) hM.1.1 hU hW⟩ rfl rfl hl.1 rfl (lv_room (Nat.le_of_ble_eq_true rfl)) dX4_about_33 ⟨(show 0 + 0 ≤ 0 by omega), (show 0 + 0 ≤ 0 by omega)⟩) hS (fun q h => Or.inl (Or.inl (Or.inl h))) (fun q h => Or.inl (Or.inl (Or.inl h))) (fun vv H_5 L_6 hP_ hz_7 hk_8 hS => ?_)
    obtain ⟨hv_, hO_⟩ := hP_
    subst hv_
    have hM := hM.put hd hO_ (fun q h1 h2 => hk_8 q h1 h2)
    exact W.iret hx hb hr (fun t ht hW => ⟨⟨_, rfl, by rw [ht]; exact ⟨rfl, hM⟩⟩, hS.F ht⟩) hS.2.2 dX4_about_36
  · refine xr_ro (va_runV (As := [.int x]) (rest := []) ⟨hx, hb, hml, hown, hts⟩ (mt_isEater_f l E (fun q => xMF mo aS aT aW aO tr q ∨ sz ≤ q) mo aS aT aW aO tr (nI 0) n so m ts sh x hn hm h1) (cwV 1 hts (lw_V q846 q848 qs15 q44 q849) rfl rfl rfl (by decide +kernel) ⟨Nat.le_of_ble_eq_true rfl, Nat.le_of_ble_eq_true rfl⟩) ⟨xPre_blind, ((hM).1.1).recv hE rfl, fun U hU hW => xPre_at hE hS (fun _ h => h) hM.1 hU hW⟩ rfl rfl hl.1 rfl (lv_room (Nat.le_of_ble_eq_true rfl)) dX4_about_7 ⟨(show 0 + 0 ≤ 0 by omega), (show 0 + 0 ≤ 0 by omega)⟩) ?_
    refine xr_zeq (tgt := 31) hx hb dX4_about_10 (by decide) (by omega) (fun c_ => ?_) (fun c_ => absurd c_ (by omega))
    refine lv_aload_n hx hb dX4_about_31 rfl (lv_at hl 0 rfl) ?_
    refine lv_iconst (v := (nI 1)) hx hb dX4_about_32 (by decide) ?_
    refine xr_mu (va_runV (As := [.int (nI 1)]) (rest := []) ⟨hx, hb, hml, hown, hts⟩ (mt_no l E mo aS aT aW aO (nI 0) n m sh 1) (cwV 1 hts (lw_V q823 q825 qs13 q44 q826) rfl rfl rfl (by decide +kernel) ⟨Nat.le_of_ble_eq_true rfl, Nat.le_of_ble_eq_true rfl⟩) ⟨xPre_blind, ((hM).1.1).recv hE rfl, fun U hU hW => xPre_at hE hS (fun q h => Or.inl (Or.inl (Or.inl h))) hM.1.1 hU hW⟩ rfl rfl hl.1 rfl (lv_room (Nat.le_of_ble_eq_true rfl)) dX4_about_33 ⟨(show 0 + 0 ≤ 0 by omega), (show 0 + 0 ≤ 0 by omega)⟩) hS (fun q h => Or.inl (Or.inl (Or.inl h))) (fun q h => Or.inl (Or.inl (Or.inl h))) (fun vv H_9 L_10 hP_ hz_11 hk_12 hS => ?_)
    obtain ⟨hv_, hO_⟩ := hP_
    subst hv_
    have hM := hM.put hd hO_ (fun q h1 h2 => hk_12 q h1 h2)
    exact W.iret hx hb hr (fun t ht hW => ⟨⟨_, rfl, by rw [ht]; exact ⟨rfl, hM⟩⟩, hS.F ht⟩) hS.2.2 dX4_about_36

set_option maxHeartbeats 4000000 in
set_option maxRecDepth 100000 in
theorem mt_taste_ok (l : Launch) (E : xG) (mo aS aT aW aO : Nat) (tr : Nat → Nat) (th : Int32) (n : Nat) (so : Nat → Nat) (m : Nat) (ts : Nat → Nat → Nat) (sh : Int32) (ow ot : Nat → Int32) (sz : Nat) (e j : Nat) (he : e < m) (hj : j < 5) (hn : n ≤ 40) (hm : m ≤ 5) (hd : xMd mo aS aT aW aO tr) (hso : ∀ k, so k < 5) (hts9 : ∀ e k, ts e k ≤ 9) : Met l yX4_taste (ws_ yX4_taste cX4_taste 3 (some .int)) ({ frames := 7, cells := 0, slots := 0, locals := 280 } : Room) (xPre E (fun q => xMF mo aS aT aW aO tr q ∨ sz ≤ q) [.ref mo, .int (nI e), .int (nI j)] (fun H => H.size = sz ∧ xM E mo aS aT aW aO tr th n so m ts sh ow ot H)) (xQ (fun q => xMF mo aS aT aW aO tr q ∨ sz ≤ q) (fun v H => v = .int (nI (ts e j)) ∧ xM E mo aS aT aW aO tr (nI 0) n so m ts sh ow ot H)) 0 0 (fun q => xMF mo aS aT aW aO tr q ∨ sz ≤ q) := by
  refine Met.ofW (cc := cX4_taste) (maxL := 3) (ret := (some .int)) (by decide) rfl ?_
  intro P0 e0 s m0 args below meth c0 s₁ B hml hv
  obtain ⟨rfl, hE, hsz, hM⟩ := hv
  have hx := B.exec
  have hb := B.bytes
  have hr := B.returns
  have hts := atoms_spec (ws := ws_ yX4_taste cX4_taste 3 (some .int)) B.pre
  have hts : ∀ w ∈ lw_all, w.before _ s = true := fun w h => hts w (List.mem_cons_of_mem _ h)
  have hown : s.vm.findClass RX4 = some m0.cls := findClass_of_methodNamed B.named
  have hlocks := B.notSynchronized
  have hS : va_S (fun q => xMF mo aS aT aW aO tr q ∨ sz ≤ q) s.heap s.heap [] := va_S.rf
  have hl := lv_entry ([.ref mo, .int (nI e), .int (nI j)]) (n := 3) (Nat.le_of_ble_eq_true rfl)
  rw [lg_entry_eq]
  generalize (lg_sl ([.ref mo, .int (nI e), .int (nI j)]) ++ List.replicate (3 - (lg_sl ([.ref mo, .int (nI e), .int (nI j)])).length) Slot.unset).toArray = ls at hl ⊢
  have hl : lv_has ls 3 [(0, .ref mo), (1, .int (nI e)), (2, .int (nI j))] := hl
  refine lv_aload_n hx hb dX4_taste_0 rfl (lv_at hl 0 rfl) ?_
  refine lv_iconst (v := (nI 0)) hx hb dX4_taste_1 (by decide) ?_
  refine xr_put hx hb hts in_X4 tyX4 tyX4_ok nmX4 hown hE hS (Or.inl (Or.inl (Or.inl rfl))) ((hM).1.1) rfl 0 (by decide) (hts _ q787) (fun _ h => h) rfl (ty := tyX4 0) (by decide) rfl rfl (Nat.le_of_ble_eq_true rfl) dX4_taste_2 (fun H_1 L_2 hO_ hz_3 ho_4 hS => ?_)
  have hO_ : xO E mo 3 [.int (nI 0), .int (nI n), .ref aS, .int (nI m), .ref aT, .int sh, .ref aW, .ref aO] H_1 := hO_
  have hM := hM.put hd hO_ (fun q _ h => ho_4 q h)
  refine lv_aload_n hx hb dX4_taste_5 rfl (lv_at hl 0 rfl) ?_
  refine lv_iload_n hx hb dX4_taste_6 rfl (lv_at hl 1 rfl) ?_
  refine xr_ro (va_runV (As := [.int (nI e)]) (rest := []) ⟨hx, hb, hml, hown, hts⟩ (mt_isEater_t l E (fun q => xMF mo aS aT aW aO tr q ∨ sz ≤ q) mo aS aT aW aO tr (nI 0) n so m ts sh (nI e) hn hm (vp_in_nI he (by omega))) (cwV 1 hts (lw_V q846 q848 qs15 q44 q849) rfl rfl rfl (by decide +kernel) ⟨Nat.le_of_ble_eq_true rfl, Nat.le_of_ble_eq_true rfl⟩) ⟨xPre_blind, ((hM).1.1).recv hE rfl, fun U hU hW => xPre_at hE hS (fun _ h => h) hM.1 hU hW⟩ rfl rfl hl.1 rfl (lv_room (Nat.le_of_ble_eq_true rfl)) dX4_taste_7 ⟨(show 0 + 0 ≤ 0 by omega), (show 0 + 0 ≤ 0 by omega)⟩) ?_
  refine xr_zeq (tgt := 31) hx hb dX4_taste_10 (by decide) (by omega) (fun c_ => absurd c_ (by omega)) (fun c_ => ?_)
  refine lv_iload_n hx hb dX4_taste_13 rfl (lv_at hl 2 rfl) ?_
  refine xr_ro (va_runS (As := [.int (nI j)]) (rest := []) ⟨hx, hb, hml, hown, hts⟩ (mt_isSort_t l E (fun q => xMF mo aS aT aW aO tr q ∨ sz ≤ q) (nI j) (vp_in_nI hj (by omega))) (va_cwS 1 hts (lw_S q835 q836 q44 q837) rfl rfl rfl (by decide +kernel) ⟨Nat.le_of_ble_eq_true rfl, Nat.le_of_ble_eq_true rfl⟩) ⟨xPre_blind, fun U hU hW => xPre_at hE hS (fun _ h => h) trivial hU hW⟩ rfl rfl hl.1 rfl (lv_room (Nat.le_of_ble_eq_true rfl)) dX4_taste_14 ⟨(show 0 + 0 ≤ 0 by omega), (show 0 + 0 ≤ 0 by omega)⟩) ?_
  refine xr_zeq (tgt := 31) hx hb dX4_taste_17 (by decide) (by omega) (fun c_ => absurd c_ (by omega)) (fun c_ => ?_)
  refine lv_aload_n hx hb dX4_taste_20 rfl (lv_at hl 0 rfl) ?_
  refine xr_get hx hb hts in_X4 hown hE ((hM).1.1) rfl 4 (by decide) (hts _ q791) (fun _ h => h) rfl dX4_taste_21 ?_
  refine lv_iload_n hx hb dX4_taste_24 rfl (lv_at hl 1 rfl) ?_
  refine xr_aald hx hb hE 5 rfl rfl ((hM).1.2.2.1) (i := e) (by omega) (by omega) (v := .ref (tr e)) rfl dX4_taste_25 ?_
  refine lv_iload_n hx hb dX4_taste_26 rfl (lv_at hl 2 rfl) ?_
  refine xr_iald hx hb hE (hM.1.2.2.2 e (by omega)) (i := j) hj (by omega) dX4_taste_27 ?_
  refine lv_goto (tgt := 36) hx hb dX4_taste_28 (by decide) ?_
  exact W.iret hx hb hr (fun t ht hW => ⟨⟨_, rfl, by rw [ht]; exact ⟨rfl, hM⟩⟩, hS.F ht⟩) hS.2.2 dX4_taste_36

set_option maxHeartbeats 4000000 in
set_option maxRecDepth 100000 in
theorem mt_taste_no (l : Launch) (E : xG) (mo aS aT aW aO : Nat) (tr : Nat → Nat) (th : Int32) (n : Nat) (so : Nat → Nat) (m : Nat) (ts : Nat → Nat → Nat) (sh : Int32) (ow ot : Nat → Int32) (sz : Nat) (x y : Int32) (h : ¬ vp_in x m ∨ ¬ vp_in y 5) (hn : n ≤ 40) (hm : m ≤ 5) (hd : xMd mo aS aT aW aO tr) (hso : ∀ k, so k < 5) (hts9 : ∀ e k, ts e k ≤ 9) : Met l yX4_taste (ws_ yX4_taste cX4_taste 3 (some .int)) ({ frames := 7, cells := 0, slots := 0, locals := 280 } : Room) (xPre E (fun q => xMF mo aS aT aW aO tr q ∨ sz ≤ q) [.ref mo, .int x, .int y] (fun H => H.size = sz ∧ xM E mo aS aT aW aO tr th n so m ts sh ow ot H)) (xQ (fun q => xMF mo aS aT aW aO tr q ∨ sz ≤ q) (fun v H => v = .int (nI 0) ∧ xM E mo aS aT aW aO tr (nI 1) n so m ts sh ow ot H)) 0 0 (fun q => xMF mo aS aT aW aO tr q ∨ sz ≤ q) := by
  refine Met.ofW (cc := cX4_taste) (maxL := 3) (ret := (some .int)) (by decide) rfl ?_
  intro P0 e0 s m0 args below meth c0 s₁ B hml hv
  obtain ⟨rfl, hE, hsz, hM⟩ := hv
  have hx := B.exec
  have hb := B.bytes
  have hr := B.returns
  have hts := atoms_spec (ws := ws_ yX4_taste cX4_taste 3 (some .int)) B.pre
  have hts : ∀ w ∈ lw_all, w.before _ s = true := fun w h => hts w (List.mem_cons_of_mem _ h)
  have hown : s.vm.findClass RX4 = some m0.cls := findClass_of_methodNamed B.named
  have hlocks := B.notSynchronized
  have hS : va_S (fun q => xMF mo aS aT aW aO tr q ∨ sz ≤ q) s.heap s.heap [] := va_S.rf
  have hl := lv_entry ([.ref mo, .int x, .int y]) (n := 3) (Nat.le_of_ble_eq_true rfl)
  rw [lg_entry_eq]
  generalize (lg_sl ([.ref mo, .int x, .int y]) ++ List.replicate (3 - (lg_sl ([.ref mo, .int x, .int y])).length) Slot.unset).toArray = ls at hl ⊢
  have hl : lv_has ls 3 [(0, .ref mo), (1, .int x), (2, .int y)] := hl
  refine lv_aload_n hx hb dX4_taste_0 rfl (lv_at hl 0 rfl) ?_
  refine lv_iconst (v := (nI 0)) hx hb dX4_taste_1 (by decide) ?_
  refine xr_put hx hb hts in_X4 tyX4 tyX4_ok nmX4 hown hE hS (Or.inl (Or.inl (Or.inl rfl))) ((hM).1.1) rfl 0 (by decide) (hts _ q787) (fun _ h => h) rfl (ty := tyX4 0) (by decide) rfl rfl (Nat.le_of_ble_eq_true rfl) dX4_taste_2 (fun H_1 L_2 hO_ hz_3 ho_4 hS => ?_)
  have hO_ : xO E mo 3 [.int (nI 0), .int (nI n), .ref aS, .int (nI m), .ref aT, .int sh, .ref aW, .ref aO] H_1 := hO_
  have hM := hM.put hd hO_ (fun q _ h => ho_4 q h)
  refine lv_aload_n hx hb dX4_taste_5 rfl (lv_at hl 0 rfl) ?_
  refine lv_iload_n hx hb dX4_taste_6 rfl (lv_at hl 1 rfl) ?_
  by_cases h1 : vp_in x m
  · refine xr_ro (va_runV (As := [.int x]) (rest := []) ⟨hx, hb, hml, hown, hts⟩ (mt_isEater_t l E (fun q => xMF mo aS aT aW aO tr q ∨ sz ≤ q) mo aS aT aW aO tr (nI 0) n so m ts sh x hn hm h1) (cwV 1 hts (lw_V q846 q848 qs15 q44 q849) rfl rfl rfl (by decide +kernel) ⟨Nat.le_of_ble_eq_true rfl, Nat.le_of_ble_eq_true rfl⟩) ⟨xPre_blind, ((hM).1.1).recv hE rfl, fun U hU hW => xPre_at hE hS (fun _ h => h) hM.1 hU hW⟩ rfl rfl hl.1 rfl (lv_room (Nat.le_of_ble_eq_true rfl)) dX4_taste_7 ⟨(show 0 + 0 ≤ 0 by omega), (show 0 + 0 ≤ 0 by omega)⟩) ?_
    refine xr_zeq (tgt := 31) hx hb dX4_taste_10 (by decide) (by omega) (fun c_ => absurd c_ (by omega)) (fun c_ => ?_)
    refine lv_iload_n hx hb dX4_taste_13 rfl (lv_at hl 2 rfl) ?_
    refine xr_ro (va_runS (As := [.int y]) (rest := []) ⟨hx, hb, hml, hown, hts⟩ (mt_isSort_f l E (fun q => xMF mo aS aT aW aO tr q ∨ sz ≤ q) y (h.resolve_left (fun q => q h1))) (va_cwS 1 hts (lw_S q835 q836 q44 q837) rfl rfl rfl (by decide +kernel) ⟨Nat.le_of_ble_eq_true rfl, Nat.le_of_ble_eq_true rfl⟩) ⟨xPre_blind, fun U hU hW => xPre_at hE hS (fun _ h => h) trivial hU hW⟩ rfl rfl hl.1 rfl (lv_room (Nat.le_of_ble_eq_true rfl)) dX4_taste_14 ⟨(show 0 + 0 ≤ 0 by omega), (show 0 + 0 ≤ 0 by omega)⟩) ?_
    refine xr_zeq (tgt := 31) hx hb dX4_taste_17 (by decide) (by omega) (fun c_ => ?_) (fun c_ => absurd c_ (by omega))
    refine lv_aload_n hx hb dX4_taste_31 rfl (lv_at hl 0 rfl) ?_
    refine lv_iconst (v := (nI 1)) hx hb dX4_taste_32 (by decide) ?_
    refine xr_mu (va_runV (As := [.int (nI 1)]) (rest := []) ⟨hx, hb, hml, hown, hts⟩ (mt_no l E mo aS aT aW aO (nI 0) n m sh 1) (cwV 1 hts (lw_V q823 q825 qs13 q44 q826) rfl rfl rfl (by decide +kernel) ⟨Nat.le_of_ble_eq_true rfl, Nat.le_of_ble_eq_true rfl⟩) ⟨xPre_blind, ((hM).1.1).recv hE rfl, fun U hU hW => xPre_at hE hS (fun q h => Or.inl (Or.inl (Or.inl h))) hM.1.1 hU hW⟩ rfl rfl hl.1 rfl (lv_room (Nat.le_of_ble_eq_true rfl)) dX4_taste_33 ⟨(show 0 + 0 ≤ 0 by omega), (show 0 + 0 ≤ 0 by omega)⟩) hS (fun q h => Or.inl (Or.inl (Or.inl h))) (fun q h => Or.inl (Or.inl (Or.inl h))) (fun vv H_5 L_6 hP_ hz_7 hk_8 hS => ?_)
    obtain ⟨hv_, hO_⟩ := hP_
    subst hv_
    have hM := hM.put hd hO_ (fun q h1 h2 => hk_8 q h1 h2)
    exact W.iret hx hb hr (fun t ht hW => ⟨⟨_, rfl, by rw [ht]; exact ⟨rfl, hM⟩⟩, hS.F ht⟩) hS.2.2 dX4_taste_36
  · refine xr_ro (va_runV (As := [.int x]) (rest := []) ⟨hx, hb, hml, hown, hts⟩ (mt_isEater_f l E (fun q => xMF mo aS aT aW aO tr q ∨ sz ≤ q) mo aS aT aW aO tr (nI 0) n so m ts sh x hn hm h1) (cwV 1 hts (lw_V q846 q848 qs15 q44 q849) rfl rfl rfl (by decide +kernel) ⟨Nat.le_of_ble_eq_true rfl, Nat.le_of_ble_eq_true rfl⟩) ⟨xPre_blind, ((hM).1.1).recv hE rfl, fun U hU hW => xPre_at hE hS (fun _ h => h) hM.1 hU hW⟩ rfl rfl hl.1 rfl (lv_room (Nat.le_of_ble_eq_true rfl)) dX4_taste_7 ⟨(show 0 + 0 ≤ 0 by omega), (show 0 + 0 ≤ 0 by omega)⟩) ?_
    refine xr_zeq (tgt := 31) hx hb dX4_taste_10 (by decide) (by omega) (fun c_ => ?_) (fun c_ => absurd c_ (by omega))
    refine lv_aload_n hx hb dX4_taste_31 rfl (lv_at hl 0 rfl) ?_
    refine lv_iconst (v := (nI 1)) hx hb dX4_taste_32 (by decide) ?_
    refine xr_mu (va_runV (As := [.int (nI 1)]) (rest := []) ⟨hx, hb, hml, hown, hts⟩ (mt_no l E mo aS aT aW aO (nI 0) n m sh 1) (cwV 1 hts (lw_V q823 q825 qs13 q44 q826) rfl rfl rfl (by decide +kernel) ⟨Nat.le_of_ble_eq_true rfl, Nat.le_of_ble_eq_true rfl⟩) ⟨xPre_blind, ((hM).1.1).recv hE rfl, fun U hU hW => xPre_at hE hS (fun q h => Or.inl (Or.inl (Or.inl h))) hM.1.1 hU hW⟩ rfl rfl hl.1 rfl (lv_room (Nat.le_of_ble_eq_true rfl)) dX4_taste_33 ⟨(show 0 + 0 ≤ 0 by omega), (show 0 + 0 ≤ 0 by omega)⟩) hS (fun q h => Or.inl (Or.inl (Or.inl h))) (fun q h => Or.inl (Or.inl (Or.inl h))) (fun vv H_9 L_10 hP_ hz_11 hk_12 hS => ?_)
    obtain ⟨hv_, hO_⟩ := hP_
    subst hv_
    have hM := hM.put hd hO_ (fun q h1 h2 => hk_12 q h1 h2)
    exact W.iret hx hb hr (fun t ht hW => ⟨⟨_, rfl, by rw [ht]; exact ⟨rfl, hM⟩⟩, hS.F ht⟩) hS.2.2 dX4_taste_36

set_option maxHeartbeats 4000000 in
set_option maxRecDepth 100000 in
theorem mt_count_ok (l : Launch) (E : xG) (mo aS aT aW aO : Nat) (tr : Nat → Nat) (th : Int32) (n : Nat) (so : Nat → Nat) (m : Nat) (ts : Nat → Nat → Nat) (sh : Int32) (ow ot : Nat → Int32) (sz : Nat) (w : Nat) (hw : w < 7) (hn : n ≤ 40) (hm : m ≤ 5) (hd : xMd mo aS aT aW aO tr) (hso : ∀ k, so k < 5) (hts9 : ∀ e k, ts e k ≤ 9) : Met l yX4_count (ws_ yX4_count cX4_count 2 (some .int)) ({ frames := 7, cells := 6, slots := 37, locals := 280 } : Room) (xPre E (fun q => xMF mo aS aT aW aO tr q ∨ sz ≤ q) [.ref mo, .int (nI w)] (fun H => H.size = sz ∧ xM E mo aS aT aW aO tr th n so m ts sh ow ot H)) (xQ (fun q => xMF mo aS aT aW aO tr q ∨ sz ≤ q) (fun v H => v = .int (cnt (tk ts so) ow n m sh w) ∧ xM E mo aS aT aW aO tr (nI 0) n so m ts sh ow ot H)) 6 37 (fun q => xMF mo aS aT aW aO tr q ∨ sz ≤ q) := by
  refine Met.ofW (cc := cX4_count) (maxL := 2) (ret := (some .int)) (by decide) rfl ?_
  intro P0 e0 s m0 args below meth c0 s₁ B hml hv
  obtain ⟨rfl, hE, hsz, hM⟩ := hv
  have hx := B.exec
  have hb := B.bytes
  have hr := B.returns
  have hts := atoms_spec (ws := ws_ yX4_count cX4_count 2 (some .int)) B.pre
  have hts : ∀ w ∈ lw_all, w.before _ s = true := fun w h => hts w (List.mem_cons_of_mem _ h)
  have hown : s.vm.findClass RX4 = some m0.cls := findClass_of_methodNamed B.named
  have hlocks := B.notSynchronized
  have hS : va_S (fun q => xMF mo aS aT aW aO tr q ∨ sz ≤ q) s.heap s.heap [] := va_S.rf
  have hl := lv_entry ([.ref mo, .int (nI w)]) (n := 2) (Nat.le_of_ble_eq_true rfl)
  rw [lg_entry_eq]
  generalize (lg_sl ([.ref mo, .int (nI w)]) ++ List.replicate (2 - (lg_sl ([.ref mo, .int (nI w)])).length) Slot.unset).toArray = ls at hl ⊢
  have hl : lv_has ls 2 [(0, .ref mo), (1, .int (nI w))] := hl
  refine lv_aload_n hx hb dX4_count_0 rfl (lv_at hl 0 rfl) ?_
  refine lv_iconst (v := (nI 0)) hx hb dX4_count_1 (by decide) ?_
  refine xr_put hx hb hts in_X4 tyX4 tyX4_ok nmX4 hown hE hS (Or.inl (Or.inl (Or.inl rfl))) ((hM).1.1) rfl 0 (by decide) (hts _ q787) (fun _ h => h) rfl (ty := tyX4 0) (by decide) rfl rfl (Nat.le_of_ble_eq_true rfl) dX4_count_2 (fun H_1 L_2 hO_ hz_3 ho_4 hS => ?_)
  have hO_ : xO E mo 3 [.int (nI 0), .int (nI n), .ref aS, .int (nI m), .ref aT, .int sh, .ref aW, .ref aO] H_1 := hO_
  have hM := hM.put hd hO_ (fun q _ h => ho_4 q h)
  refine lv_iload_n hx hb dX4_count_5 rfl (lv_at hl 1 rfl) ?_
  refine lv_iconst (v := (nI 0)) hx hb dX4_count_6 (by decide) ?_
  refine lv_bipush (v := (nI 6)) hx hb dX4_count_7 (by decide) ?_
  refine xr_ro (va_runS (As := [.int (nI w), .int (nI 0), .int (nI 6)]) (rest := []) ⟨hx, hb, hml, hown, hts⟩ (mt_isIn_t l E (fun q => xMF mo aS aT aW aO tr q ∨ sz ≤ q) (nI w) (nI 0) (nI 6) (nI_le (by omega) (by omega)) (nI_le (by omega) (by omega))) (va_cwS 3 hts (lw_S q820 q821 q44 q822) rfl rfl rfl (by decide +kernel) ⟨Nat.le_of_ble_eq_true rfl, Nat.le_of_ble_eq_true rfl⟩) ⟨xPre_blind, fun U hU hW => xPre_at hE hS (fun _ h => h) trivial hU hW⟩ rfl rfl hl.1 rfl (lv_room (Nat.le_of_ble_eq_true rfl)) dX4_count_9 ⟨(show 0 + 0 ≤ 6 by omega), (show 0 + 0 ≤ 37 by omega)⟩) ?_
  refine xr_zeq (tgt := 23) hx hb dX4_count_12 (by decide) (by omega) (fun c_ => absurd c_ (by omega)) (fun c_ => ?_)
  refine lv_aload_n hx hb dX4_count_15 rfl (lv_at hl 0 rfl) ?_
  refine lv_iload_n hx hb dX4_count_16 rfl (lv_at hl 1 rfl) ?_
  refine xr_mu (va_runV (As := [.int (nI w)]) (rest := []) ⟨hx, hb, hml, hown, hts⟩ (mt_counted l E mo aS aT aW aO tr (nI 0) n so m ts sh ow H_1.size w hw hn hm hso hts9) (cwV 1 hts (lw_V q952 q954 qs30 q44 q955) rfl rfl rfl (by decide +kernel) ⟨Nat.le_of_ble_eq_true rfl, Nat.le_of_ble_eq_true rfl⟩) ⟨xPre_blind, ((hM).1.1).recv hE rfl, fun U hU hW => xPre_at hE hS (fun q h => Or.inr (Nat.le_trans (by have := hS.1; omega) h)) (⟨rfl, hM.1, hM.2.1⟩) hU hW⟩ rfl rfl hl.1 rfl (lv_room (Nat.le_of_ble_eq_true rfl)) dX4_count_17 ⟨(show 0 + 6 ≤ 6 by omega), (show 0 + 37 ≤ 37 by omega)⟩) hS (fun q h => Or.inr (Nat.le_trans (by have := hS.1; omega) h)) (fun q h => Or.inr (Nat.le_trans (by have := hS.1; omega) h)) (fun vv H_5 L_6 hP_ hz_7 hk_8 hS => ?_)
  have hv_ := hP_
  subst hv_
  have hM := hM.kept (fun q hq => hk_8 q (hM.lt hq) (Nat.not_le.mpr (hM.lt hq)))
  refine lv_goto (tgt := 28) hx hb dX4_count_20 (by decide) ?_
  exact W.iret hx hb hr (fun t ht hW => ⟨⟨_, rfl, by rw [ht]; exact ⟨rfl, hM⟩⟩, hS.F ht⟩) hS.2.2 dX4_count_28

set_option maxHeartbeats 4000000 in
set_option maxRecDepth 100000 in
theorem mt_count_no (l : Launch) (E : xG) (mo aS aT aW aO : Nat) (tr : Nat → Nat) (th : Int32) (n : Nat) (so : Nat → Nat) (m : Nat) (ts : Nat → Nat → Nat) (sh : Int32) (ow ot : Nat → Int32) (sz : Nat) (x : Int32) (h : ¬ vp_in x 7) (hn : n ≤ 40) (hm : m ≤ 5) (hd : xMd mo aS aT aW aO tr) (hso : ∀ k, so k < 5) (hts9 : ∀ e k, ts e k ≤ 9) : Met l yX4_count (ws_ yX4_count cX4_count 2 (some .int)) ({ frames := 7, cells := 0, slots := 0, locals := 280 } : Room) (xPre E (fun q => xMF mo aS aT aW aO tr q ∨ sz ≤ q) [.ref mo, .int x] (fun H => H.size = sz ∧ xM E mo aS aT aW aO tr th n so m ts sh ow ot H)) (xQ (fun q => xMF mo aS aT aW aO tr q ∨ sz ≤ q) (fun v H => v = .int (nI 0) ∧ xM E mo aS aT aW aO tr (nI 1) n so m ts sh ow ot H)) 0 0 (fun q => xMF mo aS aT aW aO tr q ∨ sz ≤ q) := by
  refine Met.ofW (cc := cX4_count) (maxL := 2) (ret := (some .int)) (by decide) rfl ?_
  intro P0 e0 s m0 args below meth c0 s₁ B hml hv
  obtain ⟨rfl, hE, hsz, hM⟩ := hv
  have hx := B.exec
  have hb := B.bytes
  have hr := B.returns
  have hts := atoms_spec (ws := ws_ yX4_count cX4_count 2 (some .int)) B.pre
  have hts : ∀ w ∈ lw_all, w.before _ s = true := fun w h => hts w (List.mem_cons_of_mem _ h)
  have hown : s.vm.findClass RX4 = some m0.cls := findClass_of_methodNamed B.named
  have hlocks := B.notSynchronized
  have hS : va_S (fun q => xMF mo aS aT aW aO tr q ∨ sz ≤ q) s.heap s.heap [] := va_S.rf
  have hl := lv_entry ([.ref mo, .int x]) (n := 2) (Nat.le_of_ble_eq_true rfl)
  rw [lg_entry_eq]
  generalize (lg_sl ([.ref mo, .int x]) ++ List.replicate (2 - (lg_sl ([.ref mo, .int x])).length) Slot.unset).toArray = ls at hl ⊢
  have hl : lv_has ls 2 [(0, .ref mo), (1, .int x)] := hl
  refine lv_aload_n hx hb dX4_count_0 rfl (lv_at hl 0 rfl) ?_
  refine lv_iconst (v := (nI 0)) hx hb dX4_count_1 (by decide) ?_
  refine xr_put hx hb hts in_X4 tyX4 tyX4_ok nmX4 hown hE hS (Or.inl (Or.inl (Or.inl rfl))) ((hM).1.1) rfl 0 (by decide) (hts _ q787) (fun _ h => h) rfl (ty := tyX4 0) (by decide) rfl rfl (Nat.le_of_ble_eq_true rfl) dX4_count_2 (fun H_1 L_2 hO_ hz_3 ho_4 hS => ?_)
  have hO_ : xO E mo 3 [.int (nI 0), .int (nI n), .ref aS, .int (nI m), .ref aT, .int sh, .ref aW, .ref aO] H_1 := hO_
  have hM := hM.put hd hO_ (fun q _ h => ho_4 q h)
  refine lv_iload_n hx hb dX4_count_5 rfl (lv_at hl 1 rfl) ?_
  refine lv_iconst (v := (nI 0)) hx hb dX4_count_6 (by decide) ?_
  refine lv_bipush (v := (nI 6)) hx hb dX4_count_7 (by decide) ?_
  refine xr_ro (va_runS (As := [.int x, .int (nI 0), .int (nI 6)]) (rest := []) ⟨hx, hb, hml, hown, hts⟩ (mt_isIn_f l E (fun q => xMF mo aS aT aW aO tr q ∨ sz ≤ q) x (nI 0) (nI 6) (in_f (m := 7) h (by omega))) (va_cwS 3 hts (lw_S q820 q821 q44 q822) rfl rfl rfl (by decide +kernel) ⟨Nat.le_of_ble_eq_true rfl, Nat.le_of_ble_eq_true rfl⟩) ⟨xPre_blind, fun U hU hW => xPre_at hE hS (fun _ h => h) trivial hU hW⟩ rfl rfl hl.1 rfl (lv_room (Nat.le_of_ble_eq_true rfl)) dX4_count_9 ⟨(show 0 + 0 ≤ 0 by omega), (show 0 + 0 ≤ 0 by omega)⟩) ?_
  refine xr_zeq (tgt := 23) hx hb dX4_count_12 (by decide) (by omega) (fun c_ => ?_) (fun c_ => absurd c_ (by omega))
  refine lv_aload_n hx hb dX4_count_23 rfl (lv_at hl 0 rfl) ?_
  refine lv_iconst (v := (nI 1)) hx hb dX4_count_24 (by decide) ?_
  refine xr_mu (va_runV (As := [.int (nI 1)]) (rest := []) ⟨hx, hb, hml, hown, hts⟩ (mt_no l E mo aS aT aW aO (nI 0) n m sh 1) (cwV 1 hts (lw_V q823 q825 qs13 q44 q826) rfl rfl rfl (by decide +kernel) ⟨Nat.le_of_ble_eq_true rfl, Nat.le_of_ble_eq_true rfl⟩) ⟨xPre_blind, ((hM).1.1).recv hE rfl, fun U hU hW => xPre_at hE hS (fun q h => Or.inl (Or.inl (Or.inl h))) hM.1.1 hU hW⟩ rfl rfl hl.1 rfl (lv_room (Nat.le_of_ble_eq_true rfl)) dX4_count_25 ⟨(show 0 + 0 ≤ 0 by omega), (show 0 + 0 ≤ 0 by omega)⟩) hS (fun q h => Or.inl (Or.inl (Or.inl h))) (fun q h => Or.inl (Or.inl (Or.inl h))) (fun vv H_5 L_6 hP_ hz_7 hk_8 hS => ?_)
  obtain ⟨hv_, hO_⟩ := hP_
  subst hv_
  have hM := hM.put hd hO_ (fun q h1 h2 => hk_8 q h1 h2)
  exact W.iret hx hb hr (fun t ht hW => ⟨⟨_, rfl, by rw [ht]; exact ⟨rfl, hM⟩⟩, hS.F ht⟩) hS.2.2 dX4_count_28

set_option maxHeartbeats 4000000 in
set_option maxRecDepth 100000 in
theorem mt_cuts_ok (l : Launch) (E : xG) (mo aS aT aW aO : Nat) (tr : Nat → Nat) (th : Int32) (n : Nat) (so : Nat → Nat) (m : Nat) (ts : Nat → Nat → Nat) (sh : Int32) (ow ot : Nat → Int32) (sz : Nat) (e k i : Nat) (he : e < m) (hk1 : 1 ≤ k) (hk2 : k ≤ 8) (hi : i < k) (hn : n ≤ 40) (hm : m ≤ 5) (hd : xMd mo aS aT aW aO tr) (hso : ∀ k, so k < 5) (hts9 : ∀ e k, ts e k ≤ 9) : Met l yX4_cuts (ws_ yX4_cuts cX4_cuts 4 (some .int)) ({ frames := 7, cells := 0, slots := 0, locals := 280 } : Room) (xPre E (fun q => xMF mo aS aT aW aO tr q ∨ sz ≤ q) [.ref mo, .int (nI e), .int (nI k), .int (nI i)] (fun H => H.size = sz ∧ xM E mo aS aT aW aO tr th n so m ts sh ow ot H)) (xQ (fun q => xMF mo aS aT aW aO tr q ∨ sz ≤ q) (fun v H => v = .int (nI (ct (tk ts so e) n 0 k i)) ∧ xM E mo aS aT aW aO tr (nI 0) n so m ts sh ow ot H)) 0 0 (fun q => xMF mo aS aT aW aO tr q ∨ sz ≤ q) := by
  refine Met.ofW (cc := cX4_cuts) (maxL := 4) (ret := (some .int)) (by decide) rfl ?_
  intro P0 e0 s m0 args below meth c0 s₁ B hml hv
  obtain ⟨rfl, hE, hsz, hM⟩ := hv
  have hx := B.exec
  have hb := B.bytes
  have hr := B.returns
  have hts := atoms_spec (ws := ws_ yX4_cuts cX4_cuts 4 (some .int)) B.pre
  have hts : ∀ w ∈ lw_all, w.before _ s = true := fun w h => hts w (List.mem_cons_of_mem _ h)
  have hown : s.vm.findClass RX4 = some m0.cls := findClass_of_methodNamed B.named
  have hlocks := B.notSynchronized
  have hS : va_S (fun q => xMF mo aS aT aW aO tr q ∨ sz ≤ q) s.heap s.heap [] := va_S.rf
  have hl := lv_entry ([.ref mo, .int (nI e), .int (nI k), .int (nI i)]) (n := 4) (Nat.le_of_ble_eq_true rfl)
  rw [lg_entry_eq]
  generalize (lg_sl ([.ref mo, .int (nI e), .int (nI k), .int (nI i)]) ++ List.replicate (4 - (lg_sl ([.ref mo, .int (nI e), .int (nI k), .int (nI i)])).length) Slot.unset).toArray = ls at hl ⊢
  have hl : lv_has ls 4 [(0, .ref mo), (1, .int (nI e)), (2, .int (nI k)), (3, .int (nI i))] := hl
  refine lv_aload_n hx hb dX4_cuts_0 rfl (lv_at hl 0 rfl) ?_
  refine lv_iconst (v := (nI 0)) hx hb dX4_cuts_1 (by decide) ?_
  refine xr_put hx hb hts in_X4 tyX4 tyX4_ok nmX4 hown hE hS (Or.inl (Or.inl (Or.inl rfl))) ((hM).1.1) rfl 0 (by decide) (hts _ q787) (fun _ h => h) rfl (ty := tyX4 0) (by decide) rfl rfl (Nat.le_of_ble_eq_true rfl) dX4_cuts_2 (fun H_1 L_2 hO_ hz_3 ho_4 hS => ?_)
  have hO_ : xO E mo 3 [.int (nI 0), .int (nI n), .ref aS, .int (nI m), .ref aT, .int sh, .ref aW, .ref aO] H_1 := hO_
  have hM := hM.put hd hO_ (fun q _ h => ho_4 q h)
  refine lv_iload_n hx hb dX4_cuts_5 rfl (lv_at hl 2 rfl) ?_
  refine lv_iconst (v := (nI 1)) hx hb dX4_cuts_6 (by decide) ?_
  refine lv_bipush (v := (nI 8)) hx hb dX4_cuts_7 (by decide) ?_
  refine xr_ro (va_runS (As := [.int (nI k), .int (nI 1), .int (nI 8)]) (rest := []) ⟨hx, hb, hml, hown, hts⟩ (mt_isIn_t l E (fun q => xMF mo aS aT aW aO tr q ∨ sz ≤ q) (nI k) (nI 1) (nI 8) (nI_le (by omega) (by omega)) (nI_le (by omega) (by omega))) (va_cwS 3 hts (lw_S q820 q821 q44 q822) rfl rfl rfl (by decide +kernel) ⟨Nat.le_of_ble_eq_true rfl, Nat.le_of_ble_eq_true rfl⟩) ⟨xPre_blind, fun U hU hW => xPre_at hE hS (fun _ h => h) trivial hU hW⟩ rfl rfl hl.1 rfl (lv_room (Nat.le_of_ble_eq_true rfl)) dX4_cuts_9 ⟨(show 0 + 0 ≤ 0 by omega), (show 0 + 0 ≤ 0 by omega)⟩) ?_
  refine xr_zne (tgt := 21) hx hb dX4_cuts_12 (by decide) (by omega) (fun c_ => ?_) (fun c_ => absurd c_ (by omega))
  refine lv_aload_n hx hb dX4_cuts_21 rfl (lv_at hl 0 rfl) ?_
  refine lv_iload_n hx hb dX4_cuts_22 rfl (lv_at hl 1 rfl) ?_
  refine xr_ro (va_runV (As := [.int (nI e)]) (rest := []) ⟨hx, hb, hml, hown, hts⟩ (mt_isEater_t l E (fun q => xMF mo aS aT aW aO tr q ∨ sz ≤ q) mo aS aT aW aO tr (nI 0) n so m ts sh (nI e) hn hm (vp_in_nI he (by omega))) (cwV 1 hts (lw_V q846 q848 qs15 q44 q849) rfl rfl rfl (by decide +kernel) ⟨Nat.le_of_ble_eq_true rfl, Nat.le_of_ble_eq_true rfl⟩) ⟨xPre_blind, ((hM).1.1).recv hE rfl, fun U hU hW => xPre_at hE hS (fun _ h => h) hM.1 hU hW⟩ rfl rfl hl.1 rfl (lv_room (Nat.le_of_ble_eq_true rfl)) dX4_cuts_23 ⟨(show 0 + 0 ≤ 0 by omega), (show 0 + 0 ≤ 0 by omega)⟩) ?_
  refine xr_zeq (tgt := 51) hx hb dX4_cuts_26 (by decide) (by omega) (fun c_ => absurd c_ (by omega)) (fun c_ => ?_)
  refine lv_iload_n hx hb dX4_cuts_29 rfl (lv_at hl 3 rfl) ?_
  refine lv_iconst (v := (nI 0)) hx hb dX4_cuts_30 (by decide) ?_
  refine lv_iload_n hx hb dX4_cuts_31 rfl (lv_at hl 2 rfl) ?_
  refine lv_iconst (v := (nI 1)) hx hb dX4_cuts_32 (by decide) ?_
  refine lv_isub hx hb dX4_cuts_33 ?_
  refine xr_ro (va_runS (As := [.int (nI i), .int (nI 0), .int (nI k - nI 1)]) (rest := []) ⟨hx, hb, hml, hown, hts⟩ (mt_isIn_t l E (fun q => xMF mo aS aT aW aO tr q ∨ sz ≤ q) (nI i) (nI 0) (nI k - nI 1) (in_t (vp_in_nI hi (by omega)) (by omega)).1 (in_t (vp_in_nI hi (by omega)) (by omega)).2) (va_cwS 3 hts (lw_S q820 q821 q44 q822) rfl rfl rfl (by decide +kernel) ⟨Nat.le_of_ble_eq_true rfl, Nat.le_of_ble_eq_true rfl⟩) ⟨xPre_blind, fun U hU hW => xPre_at hE hS (fun _ h => h) trivial hU hW⟩ rfl rfl hl.1 rfl (lv_room (Nat.le_of_ble_eq_true rfl)) dX4_cuts_34 ⟨(show 0 + 0 ≤ 0 by omega), (show 0 + 0 ≤ 0 by omega)⟩) ?_
  refine xr_zeq (tgt := 51) hx hb dX4_cuts_37 (by decide) (by omega) (fun c_ => absurd c_ (by omega)) (fun c_ => ?_)
  refine lv_aload_n hx hb dX4_cuts_40 rfl (lv_at hl 0 rfl) ?_
  refine lv_iload_n hx hb dX4_cuts_41 rfl (lv_at hl 1 rfl) ?_
  refine lv_iconst (v := (nI 0)) hx hb dX4_cuts_42 (by decide) ?_
  refine lv_iload_n hx hb dX4_cuts_43 rfl (lv_at hl 2 rfl) ?_
  refine lv_iload_n hx hb dX4_cuts_44 rfl (lv_at hl 3 rfl) ?_
  refine xr_ro (va_runV (As := [.int (nI e), .int (nI 0), .int (nI k), .int (nI i)]) (rest := []) ⟨hx, hb, hml, hown, hts⟩ (mt_cut l E (fun q => xMF mo aS aT aW aO tr q ∨ sz ≤ q) mo aS aT aW aO tr (nI 0) n so m ts sh e 0 k i (by omega) hn (by omega) hi hk2 hso hts9) (cwV 4 hts (lw_V q868 q870 qs18 q44 q871) rfl rfl rfl (by decide +kernel) ⟨Nat.le_of_ble_eq_true rfl, Nat.le_of_ble_eq_true rfl⟩) ⟨xPre_blind, ((hM).1.1).recv hE rfl, fun U hU hW => xPre_at hE hS (fun _ h => h) hM.1 hU hW⟩ rfl rfl hl.1 rfl (lv_room (Nat.le_of_ble_eq_true rfl)) dX4_cuts_45 ⟨(show 0 + 0 ≤ 0 by omega), (show 0 + 0 ≤ 0 by omega)⟩) ?_
  refine lv_goto (tgt := 56) hx hb dX4_cuts_48 (by decide) ?_
  exact W.iret hx hb hr (fun t ht hW => ⟨⟨_, rfl, by rw [ht]; exact ⟨rfl, hM⟩⟩, hS.F ht⟩) hS.2.2 dX4_cuts_56

set_option maxHeartbeats 4000000 in
set_option maxRecDepth 100000 in
theorem mt_cuts_no (l : Launch) (E : xG) (mo aS aT aW aO : Nat) (tr : Nat → Nat) (th : Int32) (n : Nat) (so : Nat → Nat) (m : Nat) (ts : Nat → Nat → Nat) (sh : Int32) (ow ot : Nat → Int32) (sz : Nat) (x y z : Int32) (h : y < nI 1 ∨ nI 8 < y) (hn : n ≤ 40) (hm : m ≤ 5) (hd : xMd mo aS aT aW aO tr) (hso : ∀ k, so k < 5) (hts9 : ∀ e k, ts e k ≤ 9) : Met l yX4_cuts (ws_ yX4_cuts cX4_cuts 4 (some .int)) ({ frames := 7, cells := 0, slots := 0, locals := 280 } : Room) (xPre E (fun q => xMF mo aS aT aW aO tr q ∨ sz ≤ q) [.ref mo, .int x, .int y, .int z] (fun H => H.size = sz ∧ xM E mo aS aT aW aO tr th n so m ts sh ow ot H)) (xQ (fun q => xMF mo aS aT aW aO tr q ∨ sz ≤ q) (fun v H => v = .int (nI 0) ∧ xM E mo aS aT aW aO tr (nI 1) n so m ts sh ow ot H)) 0 0 (fun q => xMF mo aS aT aW aO tr q ∨ sz ≤ q) := by
  refine Met.ofW (cc := cX4_cuts) (maxL := 4) (ret := (some .int)) (by decide) rfl ?_
  intro P0 e0 s m0 args below meth c0 s₁ B hml hv
  obtain ⟨rfl, hE, hsz, hM⟩ := hv
  have hx := B.exec
  have hb := B.bytes
  have hr := B.returns
  have hts := atoms_spec (ws := ws_ yX4_cuts cX4_cuts 4 (some .int)) B.pre
  have hts : ∀ w ∈ lw_all, w.before _ s = true := fun w h => hts w (List.mem_cons_of_mem _ h)
  have hown : s.vm.findClass RX4 = some m0.cls := findClass_of_methodNamed B.named
  have hlocks := B.notSynchronized
  have hS : va_S (fun q => xMF mo aS aT aW aO tr q ∨ sz ≤ q) s.heap s.heap [] := va_S.rf
  have hl := lv_entry ([.ref mo, .int x, .int y, .int z]) (n := 4) (Nat.le_of_ble_eq_true rfl)
  rw [lg_entry_eq]
  generalize (lg_sl ([.ref mo, .int x, .int y, .int z]) ++ List.replicate (4 - (lg_sl ([.ref mo, .int x, .int y, .int z])).length) Slot.unset).toArray = ls at hl ⊢
  have hl : lv_has ls 4 [(0, .ref mo), (1, .int x), (2, .int y), (3, .int z)] := hl
  refine lv_aload_n hx hb dX4_cuts_0 rfl (lv_at hl 0 rfl) ?_
  refine lv_iconst (v := (nI 0)) hx hb dX4_cuts_1 (by decide) ?_
  refine xr_put hx hb hts in_X4 tyX4 tyX4_ok nmX4 hown hE hS (Or.inl (Or.inl (Or.inl rfl))) ((hM).1.1) rfl 0 (by decide) (hts _ q787) (fun _ h => h) rfl (ty := tyX4 0) (by decide) rfl rfl (Nat.le_of_ble_eq_true rfl) dX4_cuts_2 (fun H_1 L_2 hO_ hz_3 ho_4 hS => ?_)
  have hO_ : xO E mo 3 [.int (nI 0), .int (nI n), .ref aS, .int (nI m), .ref aT, .int sh, .ref aW, .ref aO] H_1 := hO_
  have hM := hM.put hd hO_ (fun q _ h => ho_4 q h)
  refine lv_iload_n hx hb dX4_cuts_5 rfl (lv_at hl 2 rfl) ?_
  refine lv_iconst (v := (nI 1)) hx hb dX4_cuts_6 (by decide) ?_
  refine lv_bipush (v := (nI 8)) hx hb dX4_cuts_7 (by decide) ?_
  refine xr_ro (va_runS (As := [.int y, .int (nI 1), .int (nI 8)]) (rest := []) ⟨hx, hb, hml, hown, hts⟩ (mt_isIn_f l E (fun q => xMF mo aS aT aW aO tr q ∨ sz ≤ q) y (nI 1) (nI 8) h) (va_cwS 3 hts (lw_S q820 q821 q44 q822) rfl rfl rfl (by decide +kernel) ⟨Nat.le_of_ble_eq_true rfl, Nat.le_of_ble_eq_true rfl⟩) ⟨xPre_blind, fun U hU hW => xPre_at hE hS (fun _ h => h) trivial hU hW⟩ rfl rfl hl.1 rfl (lv_room (Nat.le_of_ble_eq_true rfl)) dX4_cuts_9 ⟨(show 0 + 0 ≤ 0 by omega), (show 0 + 0 ≤ 0 by omega)⟩) ?_
  refine xr_zne (tgt := 21) hx hb dX4_cuts_12 (by decide) (by omega) (fun c_ => absurd c_ (by omega)) (fun c_ => ?_)
  refine lv_aload_n hx hb dX4_cuts_15 rfl (lv_at hl 0 rfl) ?_
  refine lv_iconst (v := (nI 1)) hx hb dX4_cuts_16 (by decide) ?_
  refine xr_mu (va_runV (As := [.int (nI 1)]) (rest := []) ⟨hx, hb, hml, hown, hts⟩ (mt_no l E mo aS aT aW aO (nI 0) n m sh 1) (cwV 1 hts (lw_V q823 q825 qs13 q44 q826) rfl rfl rfl (by decide +kernel) ⟨Nat.le_of_ble_eq_true rfl, Nat.le_of_ble_eq_true rfl⟩) ⟨xPre_blind, ((hM).1.1).recv hE rfl, fun U hU hW => xPre_at hE hS (fun q h => Or.inl (Or.inl (Or.inl h))) hM.1.1 hU hW⟩ rfl rfl hl.1 rfl (lv_room (Nat.le_of_ble_eq_true rfl)) dX4_cuts_17 ⟨(show 0 + 0 ≤ 0 by omega), (show 0 + 0 ≤ 0 by omega)⟩) hS (fun q h => Or.inl (Or.inl (Or.inl h))) (fun q h => Or.inl (Or.inl (Or.inl h))) (fun vv H_5 L_6 hP_ hz_7 hk_8 hS => ?_)
  obtain ⟨hv_, hO_⟩ := hP_
  subst hv_
  have hM := hM.put hd hO_ (fun q h1 h2 => hk_8 q h1 h2)
  exact W.iret hx hb hr (fun t ht hW => ⟨⟨_, rfl, by rw [ht]; exact ⟨rfl, hM⟩⟩, hS.F ht⟩) hS.2.2 dX4_cuts_20

set_option maxHeartbeats 4000000 in
set_option maxRecDepth 100000 in
theorem mt_cuts_no2 (l : Launch) (E : xG) (mo aS aT aW aO : Nat) (tr : Nat → Nat) (th : Int32) (n : Nat) (so : Nat → Nat) (m : Nat) (ts : Nat → Nat → Nat) (sh : Int32) (ow ot : Nat → Int32) (sz : Nat) (x : Int32) (k : Nat) (z : Int32) (hk1 : 1 ≤ k) (hk2 : k ≤ 8) (h : ¬ vp_in x m ∨ ¬ vp_in z k) (hn : n ≤ 40) (hm : m ≤ 5) (hd : xMd mo aS aT aW aO tr) (hso : ∀ k, so k < 5) (hts9 : ∀ e k, ts e k ≤ 9) : Met l yX4_cuts (ws_ yX4_cuts cX4_cuts 4 (some .int)) ({ frames := 7, cells := 0, slots := 0, locals := 280 } : Room) (xPre E (fun q => xMF mo aS aT aW aO tr q ∨ sz ≤ q) [.ref mo, .int x, .int (nI k), .int z] (fun H => H.size = sz ∧ xM E mo aS aT aW aO tr th n so m ts sh ow ot H)) (xQ (fun q => xMF mo aS aT aW aO tr q ∨ sz ≤ q) (fun v H => v = .int (nI 0) ∧ xM E mo aS aT aW aO tr (nI 2) n so m ts sh ow ot H)) 0 0 (fun q => xMF mo aS aT aW aO tr q ∨ sz ≤ q) := by
  refine Met.ofW (cc := cX4_cuts) (maxL := 4) (ret := (some .int)) (by decide) rfl ?_
  intro P0 e0 s m0 args below meth c0 s₁ B hml hv
  obtain ⟨rfl, hE, hsz, hM⟩ := hv
  have hx := B.exec
  have hb := B.bytes
  have hr := B.returns
  have hts := atoms_spec (ws := ws_ yX4_cuts cX4_cuts 4 (some .int)) B.pre
  have hts : ∀ w ∈ lw_all, w.before _ s = true := fun w h => hts w (List.mem_cons_of_mem _ h)
  have hown : s.vm.findClass RX4 = some m0.cls := findClass_of_methodNamed B.named
  have hlocks := B.notSynchronized
  have hS : va_S (fun q => xMF mo aS aT aW aO tr q ∨ sz ≤ q) s.heap s.heap [] := va_S.rf
  have hl := lv_entry ([.ref mo, .int x, .int (nI k), .int z]) (n := 4) (Nat.le_of_ble_eq_true rfl)
  rw [lg_entry_eq]
  generalize (lg_sl ([.ref mo, .int x, .int (nI k), .int z]) ++ List.replicate (4 - (lg_sl ([.ref mo, .int x, .int (nI k), .int z])).length) Slot.unset).toArray = ls at hl ⊢
  have hl : lv_has ls 4 [(0, .ref mo), (1, .int x), (2, .int (nI k)), (3, .int z)] := hl
  refine lv_aload_n hx hb dX4_cuts_0 rfl (lv_at hl 0 rfl) ?_
  refine lv_iconst (v := (nI 0)) hx hb dX4_cuts_1 (by decide) ?_
  refine xr_put hx hb hts in_X4 tyX4 tyX4_ok nmX4 hown hE hS (Or.inl (Or.inl (Or.inl rfl))) ((hM).1.1) rfl 0 (by decide) (hts _ q787) (fun _ h => h) rfl (ty := tyX4 0) (by decide) rfl rfl (Nat.le_of_ble_eq_true rfl) dX4_cuts_2 (fun H_1 L_2 hO_ hz_3 ho_4 hS => ?_)
  have hO_ : xO E mo 3 [.int (nI 0), .int (nI n), .ref aS, .int (nI m), .ref aT, .int sh, .ref aW, .ref aO] H_1 := hO_
  have hM := hM.put hd hO_ (fun q _ h => ho_4 q h)
  refine lv_iload_n hx hb dX4_cuts_5 rfl (lv_at hl 2 rfl) ?_
  refine lv_iconst (v := (nI 1)) hx hb dX4_cuts_6 (by decide) ?_
  refine lv_bipush (v := (nI 8)) hx hb dX4_cuts_7 (by decide) ?_
  refine xr_ro (va_runS (As := [.int (nI k), .int (nI 1), .int (nI 8)]) (rest := []) ⟨hx, hb, hml, hown, hts⟩ (mt_isIn_t l E (fun q => xMF mo aS aT aW aO tr q ∨ sz ≤ q) (nI k) (nI 1) (nI 8) (nI_le (by omega) (by omega)) (nI_le (by omega) (by omega))) (va_cwS 3 hts (lw_S q820 q821 q44 q822) rfl rfl rfl (by decide +kernel) ⟨Nat.le_of_ble_eq_true rfl, Nat.le_of_ble_eq_true rfl⟩) ⟨xPre_blind, fun U hU hW => xPre_at hE hS (fun _ h => h) trivial hU hW⟩ rfl rfl hl.1 rfl (lv_room (Nat.le_of_ble_eq_true rfl)) dX4_cuts_9 ⟨(show 0 + 0 ≤ 0 by omega), (show 0 + 0 ≤ 0 by omega)⟩) ?_
  refine xr_zne (tgt := 21) hx hb dX4_cuts_12 (by decide) (by omega) (fun c_ => ?_) (fun c_ => absurd c_ (by omega))
  refine lv_aload_n hx hb dX4_cuts_21 rfl (lv_at hl 0 rfl) ?_
  refine lv_iload_n hx hb dX4_cuts_22 rfl (lv_at hl 1 rfl) ?_
  by_cases h1 : vp_in x m
  · refine xr_ro (va_runV (As := [.int x]) (rest := []) ⟨hx, hb, hml, hown, hts⟩ (mt_isEater_t l E (fun q => xMF mo aS aT aW aO tr q ∨ sz ≤ q) mo aS aT aW aO tr (nI 0) n so m ts sh x hn hm h1) (cwV 1 hts (lw_V q846 q848 qs15 q44 q849) rfl rfl rfl (by decide +kernel) ⟨Nat.le_of_ble_eq_true rfl, Nat.le_of_ble_eq_true rfl⟩) ⟨xPre_blind, ((hM).1.1).recv hE rfl, fun U hU hW => xPre_at hE hS (fun _ h => h) hM.1 hU hW⟩ rfl rfl hl.1 rfl (lv_room (Nat.le_of_ble_eq_true rfl)) dX4_cuts_23 ⟨(show 0 + 0 ≤ 0 by omega), (show 0 + 0 ≤ 0 by omega)⟩) ?_
    refine xr_zeq (tgt := 51) hx hb dX4_cuts_26 (by decide) (by omega) (fun c_ => absurd c_ (by omega)) (fun c_ => ?_)
    refine lv_iload_n hx hb dX4_cuts_29 rfl (lv_at hl 3 rfl) ?_
    refine lv_iconst (v := (nI 0)) hx hb dX4_cuts_30 (by decide) ?_
    refine lv_iload_n hx hb dX4_cuts_31 rfl (lv_at hl 2 rfl) ?_
    refine lv_iconst (v := (nI 1)) hx hb dX4_cuts_32 (by decide) ?_
    refine lv_isub hx hb dX4_cuts_33 ?_
    refine xr_ro (va_runS (As := [.int z, .int (nI 0), .int (nI k - nI 1)]) (rest := []) ⟨hx, hb, hml, hown, hts⟩ (mt_isIn_f l E (fun q => xMF mo aS aT aW aO tr q ∨ sz ≤ q) z (nI 0) (nI k - nI 1) (in_f (h.resolve_left (fun q => q h1)) (by omega))) (va_cwS 3 hts (lw_S q820 q821 q44 q822) rfl rfl rfl (by decide +kernel) ⟨Nat.le_of_ble_eq_true rfl, Nat.le_of_ble_eq_true rfl⟩) ⟨xPre_blind, fun U hU hW => xPre_at hE hS (fun _ h => h) trivial hU hW⟩ rfl rfl hl.1 rfl (lv_room (Nat.le_of_ble_eq_true rfl)) dX4_cuts_34 ⟨(show 0 + 0 ≤ 0 by omega), (show 0 + 0 ≤ 0 by omega)⟩) ?_
    refine xr_zeq (tgt := 51) hx hb dX4_cuts_37 (by decide) (by omega) (fun c_ => ?_) (fun c_ => absurd c_ (by omega))
    refine lv_aload_n hx hb dX4_cuts_51 rfl (lv_at hl 0 rfl) ?_
    refine lv_iconst (v := (nI 2)) hx hb dX4_cuts_52 (by decide) ?_
    refine xr_mu (va_runV (As := [.int (nI 2)]) (rest := []) ⟨hx, hb, hml, hown, hts⟩ (mt_no l E mo aS aT aW aO (nI 0) n m sh 2) (cwV 1 hts (lw_V q823 q825 qs13 q44 q826) rfl rfl rfl (by decide +kernel) ⟨Nat.le_of_ble_eq_true rfl, Nat.le_of_ble_eq_true rfl⟩) ⟨xPre_blind, ((hM).1.1).recv hE rfl, fun U hU hW => xPre_at hE hS (fun q h => Or.inl (Or.inl (Or.inl h))) hM.1.1 hU hW⟩ rfl rfl hl.1 rfl (lv_room (Nat.le_of_ble_eq_true rfl)) dX4_cuts_53 ⟨(show 0 + 0 ≤ 0 by omega), (show 0 + 0 ≤ 0 by omega)⟩) hS (fun q h => Or.inl (Or.inl (Or.inl h))) (fun q h => Or.inl (Or.inl (Or.inl h))) (fun vv H_5 L_6 hP_ hz_7 hk_8 hS => ?_)
    obtain ⟨hv_, hO_⟩ := hP_
    subst hv_
    have hM := hM.put hd hO_ (fun q h1 h2 => hk_8 q h1 h2)
    exact W.iret hx hb hr (fun t ht hW => ⟨⟨_, rfl, by rw [ht]; exact ⟨rfl, hM⟩⟩, hS.F ht⟩) hS.2.2 dX4_cuts_56
  · refine xr_ro (va_runV (As := [.int x]) (rest := []) ⟨hx, hb, hml, hown, hts⟩ (mt_isEater_f l E (fun q => xMF mo aS aT aW aO tr q ∨ sz ≤ q) mo aS aT aW aO tr (nI 0) n so m ts sh x hn hm h1) (cwV 1 hts (lw_V q846 q848 qs15 q44 q849) rfl rfl rfl (by decide +kernel) ⟨Nat.le_of_ble_eq_true rfl, Nat.le_of_ble_eq_true rfl⟩) ⟨xPre_blind, ((hM).1.1).recv hE rfl, fun U hU hW => xPre_at hE hS (fun _ h => h) hM.1 hU hW⟩ rfl rfl hl.1 rfl (lv_room (Nat.le_of_ble_eq_true rfl)) dX4_cuts_23 ⟨(show 0 + 0 ≤ 0 by omega), (show 0 + 0 ≤ 0 by omega)⟩) ?_
    refine xr_zeq (tgt := 51) hx hb dX4_cuts_26 (by decide) (by omega) (fun c_ => ?_) (fun c_ => absurd c_ (by omega))
    refine lv_aload_n hx hb dX4_cuts_51 rfl (lv_at hl 0 rfl) ?_
    refine lv_iconst (v := (nI 2)) hx hb dX4_cuts_52 (by decide) ?_
    refine xr_mu (va_runV (As := [.int (nI 2)]) (rest := []) ⟨hx, hb, hml, hown, hts⟩ (mt_no l E mo aS aT aW aO (nI 0) n m sh 2) (cwV 1 hts (lw_V q823 q825 qs13 q44 q826) rfl rfl rfl (by decide +kernel) ⟨Nat.le_of_ble_eq_true rfl, Nat.le_of_ble_eq_true rfl⟩) ⟨xPre_blind, ((hM).1.1).recv hE rfl, fun U hU hW => xPre_at hE hS (fun q h => Or.inl (Or.inl (Or.inl h))) hM.1.1 hU hW⟩ rfl rfl hl.1 rfl (lv_room (Nat.le_of_ble_eq_true rfl)) dX4_cuts_53 ⟨(show 0 + 0 ≤ 0 by omega), (show 0 + 0 ≤ 0 by omega)⟩) hS (fun q h => Or.inl (Or.inl (Or.inl h))) (fun q h => Or.inl (Or.inl (Or.inl h))) (fun vv H_9 L_10 hP_ hz_11 hk_12 hS => ?_)
    obtain ⟨hv_, hO_⟩ := hP_
    subst hv_
    have hM := hM.put hd hO_ (fun q h1 h2 => hk_12 q h1 h2)
    exact W.iret hx hb hr (fun t ht hW => ⟨⟨_, rfl, by rw [ht]; exact ⟨rfl, hM⟩⟩, hS.F ht⟩) hS.2.2 dX4_cuts_56
