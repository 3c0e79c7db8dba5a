set_option maxHeartbeats 4000000 in
set_option maxRecDepth 100000 in
theorem mt_turns (l : Launch) (E : xG) (mo aS aT aW aO : Nat) (tr : Nat → Nat) (th : Int32) (n : Nat) (so : Nat → Nat) (m : Nat) (ts : Nat → Nat → Nat) (sh : Int32) (row : Nat) (rw : Nat → Int32) (first : Nat) (hfi : first < m) (hm : m ≤ 5) (hn : n ≤ 40) (hd : ∀ q, xMf mo aS aT tr q → q ≠ row) (hso : ∀ k, so k < 5) (hts9 : ∀ e k, ts e k ≤ 9) : Met l yX4_turns (ws_ yX4_turns cX4_turns 7 (some .int)) ({ frames := 3, cells := 0, slots := 0, locals := 120 } : Room) (xPre E (fun q => q = row) [.ref mo, .ref row, .int (nI first)] (fun H => xM0 E mo aS aT aW aO tr th n so m ts sh H ∧ xI E row 40 rw H)) (xQ (fun q => q = row) (fun v H => v = .int (nI (mn rw (-1) n)) ∧ xI E row 40 (wTurns (tk ts so) n m rw first) H)) 0 0 (fun q => q = row) := by
  refine Met.ofW (cc := cX4_turns) (maxL := 7) (ret := (some .int)) (by decide) rfl ?_
  intro P0 e0 s m0 args below meth c0 s₁ B hml hv
  obtain ⟨rfl, hE, hM, hR⟩ := hv
  have hx := B.exec
  have hb := B.bytes
  have hr := B.returns
  have hts := atoms_spec (ws := ws_ yX4_turns cX4_turns 7 (some .int)) B.pre
  have hts : ∀ w ∈ lw_all, w.before _ s = true := fun w h => hts w (List.mem_cons_of_mem _ h)
  have hown : s.vm.findClass RX4 = some m0.cls := findClass_of_methodNamed B.named
  have hlocks := B.notSynchronized
  have hS : va_S (fun q => q = row) s.heap s.heap [] := va_S.rf
  have hl := lv_entry ([.ref mo, .ref row, .int (nI first)]) (n := 7) (Nat.le_of_ble_eq_true rfl)
  rw [lg_entry_eq]
  generalize (lg_sl ([.ref mo, .ref row, .int (nI first)]) ++ List.replicate (7 - (lg_sl ([.ref mo, .ref row, .int (nI first)])).length) Slot.unset).toArray = ls at hl ⊢
  have hl : lv_has ls 7 [(0, .ref mo), (1, .ref row), (2, .int (nI first))] := hl
  refine lv_iconst (v := (nI 0)) hx hb dX4_turns_0 (by decide) ?_
  refine lv_istore_n (lv' := [(3, .int (nI 0)), (0, .ref mo), (1, .ref row), (2, .int (nI first))]) hx hb dX4_turns_1 rfl hl (by decide) rfl (fun ls hl => ?_)
  refine lv_iload_n hx hb dX4_turns_2 rfl (lv_at hl 3 rfl) ?_
  refine lv_istore (lv' := [(4, .int (nI first)), (3, .int (nI 0)), (0, .ref mo), (1, .ref row), (2, .int (nI first))]) hx hb dX4_turns_3 hl (by decide) rfl (fun ls hl => ?_)
  have lp : ∀ (nn : Nat) (t e : Nat) (ow : Nat → Int32), (e < m) → (t + mn ow (-1) n = mn rw (-1) n) → (wTurns (tk ts so) n m rw first = wTurns (tk ts so) n m ow e) → (mn ow (-1) n) < nn → ∀ (H : Heap) (locs : List Loc), (True ∧ xM0 E mo aS aT aW aO tr th n so m ts sh H) → (xI E row 40 ow H) → va_S (fun q => q = row) s.heap H locs → ∀ (ls : Array Slot), lv_has ls 7 [(0, .ref mo), (1, .ref row), (3, .int (nI t)), (4, .int (nI e))] → W P0 l e0 (headSpec (ws_ yX4_turns cX4_turns 7 (some .int)) ({ frames := 3, cells := 0, slots := 0, locals := 120 } : Room)).room s m0 ([.ref mo, .ref row, .int (nI first)] : List Value).toArray below meth c0 H locs 0 0 (MQ below (xQ (fun q => q = row) (fun v H => v = .int (nI (mn rw (-1) n)) ∧ xI E row 40 (wTurns (tk ts so) n m rw first) H)) ([.ref mo, .ref row, .int (nI first)] : List Value).toArray s 0 0 (fun q => q = row)) (F0 m0 5 ls []) := by
    intro nn
    induction nn with
    | zero =>
      intro t e ow h1 h2 h3 hnn
      exact absurd hnn (Nat.not_lt_zero _)
    | succ nn ih =>
      intro t e ow h1 h2 h3 hnn H locs hM hR hS ls hl
      have hM := hM.2
      refine lv_aload_n hx hb dX4_turns_5 rfl (lv_at hl 1 rfl) ?_
      refine lv_aload_n hx hb dX4_turns_6 rfl (lv_at hl 0 rfl) ?_
      refine xr_get hx hb hts in_X4 hown hE ((hM).1) rfl 1 (by decide) (hts _ q788) (fun _ h => h) rfl dX4_turns_7 ?_
      refine lv_iconst (v := (-1)) hx hb dX4_turns_10 (by decide) ?_
      refine xr_ro (va_runS (As := [.ref row, .int (nI n), .int (-1)]) (rest := []) ⟨hx, hb, hml, hown, hts⟩ (mt_many l E (fun q => q = row) row ow n (-1) hn) (va_cwS 3 hts (lw_S q896 q897 q44 q898) rfl rfl rfl (by decide +kernel) ⟨Nat.le_of_ble_eq_true rfl, Nat.le_of_ble_eq_true rfl⟩) ⟨xPre_blind, fun U hU hW => xPre_at hE hS (fun _ h => h) hR hU hW⟩ rfl rfl hl.1 rfl (lv_room (Nat.le_of_ble_eq_true rfl)) dX4_turns_11 ⟨(show 0 + 0 ≤ 0 by omega), (show 0 + 0 ≤ 0 by omega)⟩) ?_
      have hmle := mn_le ow (-1) n
      refine xr_zle (tgt := 98) hx hb dX4_turns_14 (by decide) (by omega) (fun c2 => ?_) (fun c2 => ?_)
      · have et : t = mn rw (-1) n := by omega
        subst et
        refine lv_iload_n hx hb dX4_turns_98 rfl (lv_at hl 2 rfl) ?_
        exact W.iret hx hb hr (fun t ht hW => ⟨⟨_, rfl, by rw [ht]; exact ⟨rfl, by rw [h3, tn_stop c2]; exact hR⟩⟩, hS.F ht⟩) hS.2.2 dX4_turns_99
      · obtain ⟨bb, hbb⟩ := tn_some (g := tk ts so e) c2
        refine lv_iconst (v := (-1)) hx hb dX4_turns_17 (by decide) ?_
        refine lv_istore (lv' := [(5, .int (-1)), (0, .ref mo), (1, .ref row), (3, .int (nI t)), (4, .int (nI e))]) hx hb dX4_turns_18 hl (by decide) rfl (fun ls hl => ?_)
        refine lv_iconst (v := (nI 0)) hx hb dX4_turns_20 (by decide) ?_
        refine lv_istore (lv' := [(6, .int (nI 0)), (5, .int (-1)), (0, .ref mo), (1, .ref row), (3, .int (nI t)), (4, .int (nI e))]) hx hb dX4_turns_21 hl (by decide) rfl (fun ls hl => ?_)
        have ihO := ih
        have lpI : ∀ (nn : Nat) (k : Nat), (k ≤ n) → (n - k) < nn → ∀ (ls : Array Slot), lv_has ls 7 [(0, .ref mo), (1, .ref row), (3, .int (nI t)), (4, .int (nI e)), (5, .int (oi (bo (tk ts so e) (fsk ow) k))), (6, .int (nI k))] → W P0 l e0 (headSpec (ws_ yX4_turns cX4_turns 7 (some .int)) ({ frames := 3, cells := 0, slots := 0, locals := 120 } : Room)).room s m0 ([.ref mo, .ref row, .int (nI first)] : List Value).toArray below meth c0 H locs 0 0 (MQ below (xQ (fun q => q = row) (fun v H => v = .int (nI (mn rw (-1) n)) ∧ xI E row 40 (wTurns (tk ts so) n m rw first) H)) ([.ref mo, .ref row, .int (nI first)] : List Value).toArray s 0 0 (fun q => q = row)) (F0 m0 23 ls []) := by
          intro nn
          induction nn with
          | zero =>
            intro k hk1 hnn
            exact absurd hnn (Nat.not_lt_zero _)
          | succ nn ih =>
            intro k hk1 hnn ls hl
            refine lv_iload hx hb dX4_turns_23 (lv_at hl 5 rfl) ?_
            refine lv_aload_n hx hb dX4_turns_25 rfl (lv_at hl 0 rfl) ?_
            refine xr_get hx hb hts in_X4 hown hE ((hM).1) rfl 1 (by decide) (hts _ q788) (fun _ h => h) rfl dX4_turns_26 ?_
            refine xr_cge (tgt := 75) hx hb dX4_turns_29 (by decide) (by omega) (by omega) (fun c_1 => ?_) (fun c_1 => ?_)
            · obtain rfl : n = k := by omega
              have hl : lv_has ls 7 [(0, .ref mo), (1, .ref row), (3, .int (nI t)), (4, .int (nI e)), (5, .int (nI bb)), (6, .int (nI n))] := by rw [hbb] at hl; exact hl
              have hbi := bo_in hbb
              have hst := tn_step (m := m) (show e < 2 ^ 31 by omega) hbb
              refine lv_aload_n hx hb dX4_turns_75 rfl (lv_at hl 1 rfl) ?_
              refine lv_iload hx hb dX4_turns_76 (lv_at hl 4 rfl) ?_
              refine lv_iload hx hb dX4_turns_78 (lv_at hl 3 rfl) ?_
              refine xr_iast hx hb hE hS rfl hR (i := bb) (by omega) (by omega) dX4_turns_80 (fun H_2 L_3 hR hz_4 ho_5 hS => ?_)
              have hM := hM.kept (fun q hq => ho_5 q (hd q hq))
              refine lv_iinc (v := (nI (t + 1))) (lv' := [(3, .int (nI (t + 1))), (0, .ref mo), (1, .ref row), (4, .int (nI e)), (5, .int (nI bb)), (6, .int (nI n))]) hx hb dX4_turns_81 hl (k := 2) rfl (nI_add t 1) (by decide) rfl (fun ls hl => ?_)
              refine lv_iload hx hb dX4_turns_84 (lv_at hl 3 rfl) ?_
              refine lv_iconst (v := (nI 1)) hx hb dX4_turns_86 (by decide) ?_
              refine xr_iadd hx hb dX4_turns_87 ?_
              refine lv_aload_n hx hb dX4_turns_88 rfl (lv_at hl 1 rfl) ?_
              refine xr_get hx hb hts in_X4 hown hE ((hM).1) rfl 3 (by decide) (hts _ q790) (fun _ h => h) rfl dX4_turns_89 ?_
              have hm0 : 0 < m := by omega
              refine xr_irem hx hb hm0 (by omega) (by omega) dX4_turns_92 ?_
              refine lv_istore (lv' := [(4, .int (nI ((e + 1) % m))), (3, .int (nI (t + 1))), (0, .ref mo), (1, .ref row), (5, .int (nI bb)), (6, .int (nI n))]) hx hb dX4_turns_93 hl (by decide) rfl (fun ls hl => ?_)
              refine lv_goto (tgt := 5) hx hb dX4_turns_95 (by decide) ?_
              exact ihO (t + 1) ((e + 1) % m) (upd ow bb (nI e)) (Nat.mod_lt _ hm0) (by omega) (by rw [h3]; exact hst.1) (by omega) _ _ (⟨trivial, hM⟩) hR hS ls (lv_sub hl [2, 3, 1, 0] rfl)
            · refine lv_aload_n hx hb dX4_turns_32 rfl (lv_at hl 1 rfl) ?_
              refine lv_iload hx hb dX4_turns_33 (lv_at hl 5 rfl) ?_
              refine xr_iald hx hb hE hR (i := k) (by omega) (by omega) dX4_turns_35 ?_
              refine lv_iconst (v := (-1)) hx hb dX4_turns_36 (by decide) ?_
              refine lv_icmp_ne (tgt := 69) hx hb dX4_turns_37 (by decide) (fun c4 => ?_) (fun c4 => ?_)
              · refine lv_iinc (v := (nI (k + 1))) (lv' := [(6, .int (nI (k + 1))), (0, .ref mo), (1, .ref row), (3, .int (nI t)), (4, .int (nI e)), (5, .int (oi (bo (tk ts so e) (fsk ow) k)))]) hx hb dX4_turns_69 hl (k := 5) rfl (nI_add k 1) (by decide) rfl (fun ls hl => ?_)
                refine lv_goto (tgt := 23) hx hb dX4_turns_72 (by decide) ?_
                exact ih (k + 1) (by omega) (by omega) ls (by rw [bo_sk (fsk_t c4)]; exact lv_sub hl [1, 2, 3, 4, 5, 0] rfl)
              · have hs := fsk_f c4
                rcases hb_ : bo (tk ts so e) (fsk ow) k with _ | b_
                · have hl : lv_has ls 7 [(0, .ref mo), (1, .ref row), (3, .int (nI t)), (4, .int (nI e)), (5, .int (-1)), (6, .int (nI k))] := by rw [hb_] at hl; exact hl
                  refine lv_iload hx hb dX4_turns_40 (lv_at hl 4 rfl) ?_
                  refine lv_iconst (v := (-1)) hx hb dX4_turns_42 (by decide) ?_
                  refine lv_icmp_eq (tgt := 65) hx hb dX4_turns_43 (by decide) (fun c3 => ?_) (fun c3 => absurd rfl c3)
                  refine lv_iload hx hb dX4_turns_65 (lv_at hl 5 rfl) ?_
                  refine lv_istore (lv' := [(5, .int (nI k)), (0, .ref mo), (1, .ref row), (3, .int (nI t)), (4, .int (nI e)), (6, .int (nI k))]) hx hb dX4_turns_67 hl (by decide) rfl (fun ls hl => ?_)
                  refine lv_iinc (v := (nI (k + 1))) (lv' := [(6, .int (nI (k + 1))), (5, .int (nI k)), (0, .ref mo), (1, .ref row), (3, .int (nI t)), (4, .int (nI e))]) hx hb dX4_turns_69 hl (k := 5) rfl (nI_add k 1) (by decide) rfl (fun ls hl => ?_)
                  refine lv_goto (tgt := 23) hx hb dX4_turns_72 (by decide) ?_
                  exact ih (k + 1) (by omega) (by omega) ls (by rw [bo_none hs hb_]; exact lv_sub hl [2, 3, 4, 5, 1, 0] rfl)
                · have hl : lv_has ls 7 [(0, .ref mo), (1, .ref row), (3, .int (nI t)), (4, .int (nI e)), (5, .int (nI b_)), (6, .int (nI k))] := by rw [hb_] at hl; exact hl
                  have hbi := bo_in hb_
                  refine lv_iload hx hb dX4_turns_40 (lv_at hl 4 rfl) ?_
                  refine lv_iconst (v := (-1)) hx hb dX4_turns_42 (by decide) ?_
                  refine lv_icmp_eq (tgt := 65) hx hb dX4_turns_43 (by decide) (fun c3 => absurd c3 (oi_m1 (by omega))) (fun c3 => ?_)
                  refine lv_aload_n hx hb dX4_turns_46 rfl (lv_at hl 0 rfl) ?_
                  refine lv_iload hx hb dX4_turns_47 (lv_at hl 3 rfl) ?_
                  refine lv_iload hx hb dX4_turns_49 (lv_at hl 5 rfl) ?_
                  refine xr_ro (va_runV (As := [.int (nI e), .int (nI k)]) (rest := []) ⟨hx, hb, hml, hown, hts⟩ (mt_likes l E (fun q => q = row) mo aS aT aW aO tr th n so m ts sh e k (by omega) (by omega) hso) (cwV 2 hts (lw_V q876 q878 qs20 q44 q879) rfl rfl rfl (by decide +kernel) ⟨Nat.le_of_ble_eq_true rfl, Nat.le_of_ble_eq_true rfl⟩) ⟨xPre_blind, ((hM).1).recv hE rfl, fun U hU hW => xPre_at hE hS (fun _ h => h) hM hU hW⟩ rfl rfl hl.1 rfl (lv_room (Nat.le_of_ble_eq_true rfl)) dX4_turns_51 ⟨(show 0 + 0 ≤ 0 by omega), (show 0 + 0 ≤ 0 by omega)⟩) ?_
                  refine lv_aload_n hx hb dX4_turns_54 rfl (lv_at hl 0 rfl) ?_
                  refine lv_iload hx hb dX4_turns_55 (lv_at hl 3 rfl) ?_
                  refine lv_iload hx hb dX4_turns_57 (lv_at hl 4 rfl) ?_
                  refine xr_ro (va_runV (As := [.int (nI e), .int (nI b_)]) (rest := [.int (nI (tk ts so e k))]) ⟨hx, hb, hml, hown, hts⟩ (mt_likes l E (fun q => q = row) mo aS aT aW aO tr th n so m ts sh e b_ (by omega) (by omega) hso) (cwV 2 hts (lw_V q876 q878 qs20 q44 q879) rfl rfl rfl (by decide +kernel) ⟨Nat.le_of_ble_eq_true rfl, Nat.le_of_ble_eq_true rfl⟩) ⟨xPre_blind, ((hM).1).recv hE rfl, fun U hU hW => xPre_at hE hS (fun _ h => h) hM hU hW⟩ rfl rfl hl.1 rfl (lv_room (Nat.le_of_ble_eq_true rfl)) dX4_turns_59 ⟨(show 0 + 0 ≤ 0 by omega), (show 0 + 0 ≤ 0 by omega)⟩) ?_
                  have q1 : tk ts so e k ≤ 9 := hts9 e (so k)
                  have q2 : tk ts so e b_ ≤ 9 := hts9 e (so b_)
                  refine xr_cle (tgt := 69) hx hb dX4_turns_62 (by decide) (by omega) (by omega) (fun c5 => ?_) (fun c5 => ?_)
                  · refine lv_iinc (v := (nI (k + 1))) (lv' := [(6, .int (nI (k + 1))), (0, .ref mo), (1, .ref row), (3, .int (nI t)), (4, .int (nI e)), (5, .int (nI b_))]) hx hb dX4_turns_69 hl (k := 5) rfl (nI_add k 1) (by decide) rfl (fun ls hl => ?_)
                    refine lv_goto (tgt := 23) hx hb dX4_turns_72 (by decide) ?_
                    exact ih (k + 1) (by omega) (by omega) ls (by rw [bo_ge hs hb_ (show ¬ tk ts so e b_ < tk ts so e k by omega)]; exact lv_sub hl [1, 2, 3, 4, 5, 0] rfl)
                  · refine lv_iload hx hb dX4_turns_65 (lv_at hl 5 rfl) ?_
                    refine lv_istore (lv' := [(5, .int (nI k)), (0, .ref mo), (1, .ref row), (3, .int (nI t)), (4, .int (nI e)), (6, .int (nI k))]) hx hb dX4_turns_67 hl (by decide) rfl (fun ls hl => ?_)
                    refine lv_iinc (v := (nI (k + 1))) (lv' := [(6, .int (nI (k + 1))), (5, .int (nI k)), (0, .ref mo), (1, .ref row), (3, .int (nI t)), (4, .int (nI e))]) hx hb dX4_turns_69 hl (k := 5) rfl (nI_add k 1) (by decide) rfl (fun ls hl => ?_)
                    refine lv_goto (tgt := 23) hx hb dX4_turns_72 (by decide) ?_
                    exact ih (k + 1) (by omega) (by omega) ls (by rw [bo_lt hs hb_ c5]; exact lv_sub hl [2, 3, 4, 5, 1, 0] rfl)
        exact lpI (n + 1) 0 (by omega) (by omega) ls (lv_sub hl [2, 3, 4, 5, 1, 0] rfl)
  exact lp (mn rw (-1) n + 1) 0 first rw hfi (by omega) rfl (by omega) _ _ (⟨trivial, hM⟩) hR hS ls (lv_sub hl [2, 3, 1, 0] rfl)

set_option maxHeartbeats 4000000 in
set_option maxRecDepth 100000 in
theorem mt_knife (l : Launch) (E : xG) (mo aS aT aW aO : Nat) (tr : Nat → Nat) (th : Int32) (n : Nat) (so : Nat → Nat) (m : Nat) (ts : Nat → Nat → Nat) (sh : Int32) (row : Nat) (rw : Nat → Int32) (sz : Nat) (hm : m ≤ 5) (hn : n ≤ 40) (hd : ∀ q, xMf mo aS aT tr q → q ≠ row) (hso : ∀ k, so k < 5) (hts9 : ∀ e k, ts e k ≤ 9) : Met l yX4_knife (ws_ yX4_knife cX4_knife 9 none) ({ frames := 4, cells := 1, slots := 5, locals := 160 } : Room) (xPre E (fun q => q = row ∨ sz ≤ q) [.ref mo, .ref row] (fun H => H.size = sz ∧ xM0 E mo aS aT aW aO tr th n so m ts sh H ∧ xI E row 40 rw H)) (xQv (fun q => q = row ∨ sz ≤ q) (fun H => xI E row 40 (wKnife (tk ts so) n m rw) H)) 1 5 (fun q => q = row ∨ sz ≤ q) := by
  refine Met.ofW (cc := cX4_knife) (maxL := 9) (ret := none) (by decide) rfl ?_
  intro P0 e0 s m0 args below meth c0 s₁ B hml hv
  obtain ⟨rfl, hE, hsz, hM, hR⟩ := hv
  have hx := B.exec
  have hb := B.bytes
  have hr := B.returns
  have hts := atoms_spec (ws := ws_ yX4_knife cX4_knife 9 none) B.pre
  have hts : ∀ w ∈ lw_all, w.before _ s = true := fun w h => hts w (List.mem_cons_of_mem _ h)
  have hown : s.vm.findClass RX4 = some m0.cls := findClass_of_methodNamed B.named
  have hlocks := B.notSynchronized
  have hS : va_S (fun q => q = row ∨ sz ≤ q) s.heap s.heap [] := va_S.rf
  have hl := lv_entry ([.ref mo, .ref row]) (n := 9) (Nat.le_of_ble_eq_true rfl)
  rw [lg_entry_eq]
  generalize (lg_sl ([.ref mo, .ref row]) ++ List.replicate (9 - (lg_sl ([.ref mo, .ref row])).length) Slot.unset).toArray = ls at hl ⊢
  have hl : lv_has ls 9 [(0, .ref mo), (1, .ref row)] := hl
  have hM0 := hM
  refine lv_iconst (v := (nI 5)) hx hb dX4_knife_0 (by decide) ?_
  refine xr_newz hx hb (hts _ q903) hE hS (n := 5) (by omega) (show 0 + 1 ≤ 1 by omega) (show 0 + 5 ≤ 5 by omega) dX4_knife_1 (fun ga H_1 ega hG hz_2 ho_3 hS => ?_)
  have hM := hM.kept (fun q hq => ho_3 q (hM.lt hq))
  have hrl := hR.lt
  have hR := hR.kept (ho_3 row hR.lt)
  have hG : xB E ga 5 (fun e => bI ((fun _ => false) e)) H_1 := hG
  have hgr : row ≠ ga := by omega
  have hgA : sz ≤ ga := by omega
  have hgM : ∀ q, xMf mo aS aT tr q → q ≠ ga := fun q hq => by have := hM0.lt hq; omega
  refine lv_astore_n (lv' := [(2, .ref ga), (0, .ref mo), (1, .ref row)]) hx hb dX4_knife_3 rfl hl (by decide) rfl (fun ls hl => ?_)
  refine lv_iconst (v := (nI 0)) hx hb dX4_knife_4 (by decide) ?_
  refine lv_istore_n (lv' := [(3, .int (nI 0)), (2, .ref ga), (0, .ref mo), (1, .ref row)]) hx hb dX4_knife_5 rfl hl (by decide) rfl (fun ls hl => ?_)
  refine lv_aload_n hx hb dX4_knife_6 rfl (lv_at hl 2 rfl) ?_
  refine xr_get hx hb hts in_X4 hown hE ((hM).1) rfl 3 (by decide) (hts _ q790) (fun _ h => h) rfl dX4_knife_7 ?_
  refine lv_istore (lv' := [(4, .int (nI m)), (3, .int (nI 0)), (2, .ref ga), (0, .ref mo), (1, .ref row)]) hx hb dX4_knife_10 hl (by decide) rfl (fun ls hl => ?_)
  have lp : ∀ (nn : Nat) (b lf : Nat) (gone : Nat → Bool) (ow : Nat → Int32), (b ≤ n) → (cg gone m = lf) → (kn (tk ts so) n m m (fun _ => false) 0 rw = kn (tk ts so) n m lf gone b ow) → (lf ≤ 5) → lf < nn → ∀ (H : Heap) (locs : List Loc), (True ∧ xM0 E mo aS aT aW aO tr th n so m ts sh H) → (xI E row 40 ow H) → (xB E ga 5 (fun e => bI (gone e)) H) → va_S (fun q => q = row ∨ sz ≤ q) s.heap H locs → ∀ (ls : Array Slot), lv_has ls 9 [(0, .ref mo), (1, .ref row), (2, .ref ga), (3, .int (nI b)), (4, .int (nI lf))] → W P0 l e0 (headSpec (ws_ yX4_knife cX4_knife 9 none) ({ frames := 4, cells := 1, slots := 5, locals := 160 } : Room)).room s m0 ([.ref mo, .ref row] : List Value).toArray below meth c0 H locs 1 5 (MQ below (xQv (fun q => q = row ∨ sz ≤ q) (fun H => xI E row 40 (wKnife (tk ts so) n m rw) H)) ([.ref mo, .ref row] : List Value).toArray s 1 5 (fun q => q = row ∨ sz ≤ q)) (F0 m0 12 ls []) := by
    intro nn
    induction nn with
    | zero =>
      intro b lf gone ow h1 h2 h3 h4 hnn
      exact absurd hnn (Nat.not_lt_zero _)
    | succ nn ih =>
      intro b lf gone ow h1 h2 h3 h4 hnn H locs hM hR hG hS ls hl
      have hM := hM.2
      refine lv_iload hx hb dX4_knife_12 (lv_at hl 4 rfl) ?_
      refine xr_zle (tgt := 110) hx hb dX4_knife_14 (by decide) (by omega) (fun c2 => ?_) (fun c2 => ?_)
      · subst c2
        exact W.vret hx hb hr (fun t ht hW => ⟨⟨rfl, by rw [ht]; exact (by unfold wKnife; rw [h3]; exact hR)⟩, hS.F ht⟩) hS.2.2 dX4_knife_110
      · obtain ⟨lf, rfl⟩ : ∃ z, lf = z + 1 := ⟨lf - 1, by omega⟩
        obtain ⟨w, hw⟩ := bo_some (g := kG (kc (tk ts so) n b (lf + 1))) (cg_pos (gone := gone) (m := m) (by omega))
        refine lv_iconst (v := (-1)) hx hb dX4_knife_17 (by decide) ?_
        refine lv_istore (lv' := [(5, .int (-1)), (0, .ref mo), (1, .ref row), (2, .ref ga), (3, .int (nI b)), (4, .int (nI (lf + 1)))]) hx hb dX4_knife_18 hl (by decide) rfl (fun ls hl => ?_)
        refine lv_iconst (v := (nI 0)) hx hb dX4_knife_20 (by decide) ?_
        refine lv_istore (lv' := [(6, .int (nI 0)), (5, .int (-1)), (0, .ref mo), (1, .ref row), (2, .ref ga), (3, .int (nI b)), (4, .int (nI (lf + 1)))]) hx hb dX4_knife_21 hl (by decide) rfl (fun ls hl => ?_)
        refine lv_iconst (v := (nI 0)) hx hb dX4_knife_23 (by decide) ?_
        refine lv_istore (lv' := [(7, .int (nI 0)), (6, .int (nI 0)), (5, .int (-1)), (0, .ref mo), (1, .ref row), (2, .ref ga), (3, .int (nI b)), (4, .int (nI (lf + 1)))]) hx hb dX4_knife_24 hl (by decide) rfl (fun ls hl => ?_)
        have ihK := ih
        have lpE : ∀ (nn : Nat) (e : Nat), (e ≤ m) → (m - e) < nn → ∀ (ls : Array Slot), lv_has ls 9 [(0, .ref mo), (1, .ref row), (2, .ref ga), (3, .int (nI b)), (4, .int (nI (lf + 1))), (5, .int (oi (bo (kG (kc (tk ts so) n b (lf + 1))) gone e))), (6, .int (nI (lst (kc (tk ts so) n b (lf + 1)) (bo (kG (kc (tk ts so) n b (lf + 1))) gone e)))), (7, .int (nI e))] → W P0 l e0 (headSpec (ws_ yX4_knife cX4_knife 9 none) ({ frames := 4, cells := 1, slots := 5, locals := 160 } : Room)).room s m0 ([.ref mo, .ref row] : List Value).toArray below meth c0 H locs 1 5 (MQ below (xQv (fun q => q = row ∨ sz ≤ q) (fun H => xI E row 40 (wKnife (tk ts so) n m rw) H)) ([.ref mo, .ref row] : List Value).toArray s 1 5 (fun q => q = row ∨ sz ≤ q)) (F0 m0 26 ls []) := by
          intro nn
          induction nn with
          | zero =>
            intro e he1 hnn
            exact absurd hnn (Nat.not_lt_zero _)
          | succ nn ih =>
            intro e he1 hnn ls hl
            refine lv_iload hx hb dX4_knife_26 (lv_at hl 7 rfl) ?_
            refine lv_aload_n hx hb dX4_knife_28 rfl (lv_at hl 0 rfl) ?_
            refine xr_get hx hb hts in_X4 hown hE ((hM).1) rfl 3 (by decide) (hts _ q790) (fun _ h => h) rfl dX4_knife_29 ?_
            refine xr_cge (tgt := 87) hx hb dX4_knife_32 (by decide) (by omega) (by omega) (fun c_4 => ?_) (fun c_4 => ?_)
            · obtain rfl : m = e := by omega
              have hl : lv_has ls 9 [(0, .ref mo), (1, .ref row), (2, .ref ga), (3, .int (nI b)), (4, .int (nI (lf + 1))), (5, .int (nI w)), (6, .int (nI (kc (tk ts so) n b (lf + 1) w))), (7, .int (nI m))] := by rw [hw] at hl; exact hl
              have hwi := bo_in hw
              have hcl := ct_le (f := tk ts so w) (n := n) (b := b) (parts := lf + 1) (part := 0) h1
              refine lv_aload_n hx hb dX4_knife_87 rfl (lv_at hl 1 rfl) ?_
              refine lv_iload_n hx hb dX4_knife_88 rfl (lv_at hl 3 rfl) ?_
              refine lv_iload hx hb dX4_knife_89 (lv_at hl 6 rfl) ?_
              refine lv_iload hx hb dX4_knife_91 (lv_at hl 5 rfl) ?_
              refine xr_muv (va_runS (As := [.ref row, .int (nI b), .int (nI (kc (tk ts so) n b (lf + 1) w)), .int (nI w)]) (rest := []) ⟨hx, hb, hml, hown, hts⟩ (mt_take l E row ow b (kc (tk ts so) n b (lf + 1) w) (nI w) hcl.1 (Nat.le_trans hcl.2 hn)) (va_cwS 4 hts (lw_S q880 q881 q44 q882) rfl rfl rfl (by decide +kernel) ⟨Nat.le_of_ble_eq_true rfl, Nat.le_of_ble_eq_true rfl⟩) ⟨xPre_blind, fun U hU hW => xPre_at hE hS (fun q h => Or.inl h) hR hU hW⟩ rfl rfl hl.1 rfl (lv_room (Nat.le_of_ble_eq_true rfl)) dX4_knife_93 ⟨(show 1 + 0 ≤ 1 by omega), (show 5 + 0 ≤ 5 by omega)⟩) hS (fun q h => Or.inl h) (fun q h => Or.inl h) (fun H_5 L_6 hP_ hz_7 hk_8 hS => ?_)
              have hR := hP_
              have hM := hM.kept (fun q hq => hk_8 q (hM.lt hq) (hd q hq))
              have hG := hG.kept (hk_8 ga hG.lt (fun q => hgr q.symm))
              refine lv_aload_n hx hb dX4_knife_96 rfl (lv_at hl 2 rfl) ?_
              refine lv_iload hx hb dX4_knife_97 (lv_at hl 5 rfl) ?_
              refine lv_iconst (v := (nI 1)) hx hb dX4_knife_99 (by decide) ?_
              refine xr_zast hx hb hE hS (Or.inr hgA) hG (i := w) (by omega) (by omega) rfl dX4_knife_100 (fun H_9 L_10 hG hz_11 ho_12 hS => ?_)
              have hG : xB E ga 5 (fun e => bI (gone e || e == w)) H_9 := by rw [← (bI_upd gone w)]; exact hG
              have hM := hM.kept (fun q hq => ho_12 q (hgM q hq))
              have hR := hR.kept (ho_12 row hgr)
              refine lv_iload hx hb dX4_knife_101 (lv_at hl 6 rfl) ?_
              refine lv_istore_n (lv' := [(3, .int (nI (kc (tk ts so) n b (lf + 1) w))), (0, .ref mo), (1, .ref row), (2, .ref ga), (4, .int (nI (lf + 1))), (5, .int (nI w)), (6, .int (nI (kc (tk ts so) n b (lf + 1) w))), (7, .int (nI m))]) hx hb dX4_knife_103 rfl hl (by decide) rfl (fun ls hl => ?_)
              refine lv_iinc (v := nI lf) (lv' := [(4, .int (nI lf)), (3, .int (nI (kc (tk ts so) n b (lf + 1) w))), (0, .ref mo), (1, .ref row), (2, .ref ga), (5, .int (nI w)), (6, .int (nI (kc (tk ts so) n b (lf + 1) w))), (7, .int (nI m))]) hx hb dX4_knife_104 hl (k := 4) rfl (pk_m1 lf) (by decide) rfl (fun ls hl => ?_)
              have hcu := cg_upd hwi.1 hwi.2
              refine lv_goto (tgt := 12) hx hb dX4_knife_107 (by decide) ?_
              exact ihK (kc (tk ts so) n b (lf + 1) w) lf (fun e => gone e || e == w) (tkf ow b (kc (tk ts so) n b (lf + 1) w) (nI w)) hcl.2 (by omega) (by rw [h3, kn_s hw]) (by omega) (by omega) _ _ (⟨trivial, hM⟩) hR hG hS ls (lv_sub hl [2, 3, 4, 1, 0] rfl)
            · refine lv_aload_n hx hb dX4_knife_35 rfl (lv_at hl 2 rfl) ?_
              refine lv_iload hx hb dX4_knife_36 (lv_at hl 7 rfl) ?_
              refine xr_zald hx hb hE hG (i := e) (by omega) (by omega) dX4_knife_38 ?_
              have hgb : gone e = true ∨ gone e = false := by cases gone e <;> simp
              rcases hgb with hg_ | hg_
              · refine lv_if_eq (tgt := 45) hx hb dX4_knife_39 (by decide) (fun c4 => absurd c4 (by rw [hg_]; decide)) (fun c4 => ?_)
                refine lv_goto (tgt := 81) hx hb dX4_knife_42 (by decide) ?_
                refine lv_iinc (v := (nI (e + 1))) (lv' := [(7, .int (nI (e + 1))), (0, .ref mo), (1, .ref row), (2, .ref ga), (3, .int (nI b)), (4, .int (nI (lf + 1))), (5, .int (oi (bo (kG (kc (tk ts so) n b (lf + 1))) gone e))), (6, .int (nI (lst (kc (tk ts so) n b (lf + 1)) (bo (kG (kc (tk ts so) n b (lf + 1))) gone e))))]) hx hb dX4_knife_81 hl (k := 7) rfl (nI_add e 1) (by decide) rfl (fun ls hl => ?_)
                refine lv_goto (tgt := 26) hx hb dX4_knife_84 (by decide) ?_
                exact ih (e + 1) (by omega) (by omega) ls (by rw [bo_sk hg_]; exact lv_sub hl [1, 2, 3, 4, 5, 6, 7, 0] rfl)
              · refine lv_if_eq (tgt := 45) hx hb dX4_knife_39 (by decide) (fun c4 => ?_) (fun c4 => absurd (show bI (gone e) = 0 by rw [hg_]; rfl) c4)
                refine lv_aload_n hx hb dX4_knife_45 rfl (lv_at hl 0 rfl) ?_
                refine lv_iload hx hb dX4_knife_46 (lv_at hl 7 rfl) ?_
                refine lv_iload_n hx hb dX4_knife_48 rfl (lv_at hl 3 rfl) ?_
                refine lv_iload hx hb dX4_knife_49 (lv_at hl 4 rfl) ?_
                refine lv_iconst (v := (nI 0)) hx hb dX4_knife_51 (by decide) ?_
                refine xr_ro (va_runV (As := [.int (nI e), .int (nI b), .int (nI (lf + 1)), .int (nI 0)]) (rest := []) ⟨hx, hb, hml, hown, hts⟩ (mt_cut l E (fun q => q = row ∨ sz ≤ q) mo aS aT aW aO tr th n so m ts sh e b (lf + 1) 0 (by omega) hn h1 (by omega) (by omega) hso hts9) (cwV 4 hts (lw_V q868 q870 qs18 q44 q871) rfl rfl rfl (by decide +kernel) ⟨Nat.le_of_ble_eq_true rfl, Nat.le_of_ble_eq_true rfl⟩) ⟨xPre_blind, ((hM).1).recv hE rfl, fun U hU hW => xPre_at hE hS (fun _ h => h) hM hU hW⟩ rfl rfl hl.1 rfl (lv_room (Nat.le_of_ble_eq_true rfl)) dX4_knife_52 ⟨(show 1 + 0 ≤ 1 by omega), (show 5 + 0 ≤ 5 by omega)⟩) ?_
                have q1 := (ct_le (f := tk ts so e) (n := n) (b := b) (parts := lf + 1) (part := 0) h1).2
                refine lv_istore (lv' := [(8, .int (nI (kc (tk ts so) n b (lf + 1) e))), (0, .ref mo), (1, .ref row), (2, .ref ga), (3, .int (nI b)), (4, .int (nI (lf + 1))), (5, .int (oi (bo (kG (kc (tk ts so) n b (lf + 1))) gone e))), (6, .int (nI (lst (kc (tk ts so) n b (lf + 1)) (bo (kG (kc (tk ts so) n b (lf + 1))) gone e)))), (7, .int (nI e))]) hx hb dX4_knife_55 hl (by decide) rfl (fun ls hl => ?_)
                refine lv_iload hx hb dX4_knife_57 (lv_at hl 6 rfl) ?_
                refine lv_iconst (v := (-1)) hx hb dX4_knife_59 (by decide) ?_
                rcases hb_ : bo (kG (kc (tk ts so) n b (lf + 1))) gone e with _ | b_
                · have hl : lv_has ls 9 [(8, .int (nI (kc (tk ts so) n b (lf + 1) e))), (0, .ref mo), (1, .ref row), (2, .ref ga), (3, .int (nI b)), (4, .int (nI (lf + 1))), (5, .int (-1)), (6, .int (nI 0)), (7, .int (nI e))] := by rw [hb_] at hl; exact hl
                  refine W.eq (g2 := F0 m0 60 ls [.int (-1), .int (-1)]) rfl ?_
                  refine lv_icmp_eq (tgt := 73) hx hb dX4_knife_60 (by decide) (fun c3 => ?_) (fun c3 => absurd rfl c3)
                  refine lv_iload hx hb dX4_knife_73 (lv_at hl 8 rfl) ?_
                  refine lv_istore (lv' := [(5, .int (nI e)), (8, .int (nI (kc (tk ts so) n b (lf + 1) e))), (0, .ref mo), (1, .ref row), (2, .ref ga), (3, .int (nI b)), (4, .int (nI (lf + 1))), (6, .int (nI 0)), (7, .int (nI e))]) hx hb dX4_knife_75 hl (by decide) rfl (fun ls hl => ?_)
                  refine lv_iload hx hb dX4_knife_77 (lv_at hl 1 rfl) ?_
                  refine lv_istore (lv' := [(6, .int (nI (kc (tk ts so) n b (lf + 1) e))), (5, .int (nI e)), (8, .int (nI (kc (tk ts so) n b (lf + 1) e))), (0, .ref mo), (1, .ref row), (2, .ref ga), (3, .int (nI b)), (4, .int (nI (lf + 1))), (7, .int (nI e))]) hx hb dX4_knife_79 hl (by decide) rfl (fun ls hl => ?_)
                  refine lv_iinc (v := (nI (e + 1))) (lv' := [(7, .int (nI (e + 1))), (6, .int (nI (kc (tk ts so) n b (lf + 1) e))), (5, .int (nI e)), (8, .int (nI (kc (tk ts so) n b (lf + 1) e))), (0, .ref mo), (1, .ref row), (2, .ref ga), (3, .int (nI b)), (4, .int (nI (lf + 1)))]) hx hb dX4_knife_81 hl (k := 8) rfl (nI_add e 1) (by decide) rfl (fun ls hl => ?_)
                  refine lv_goto (tgt := 26) hx hb dX4_knife_84 (by decide) ?_
                  exact ih (e + 1) (by omega) (by omega) ls (by rw [bo_none hg_ hb_]; exact lv_sub hl [4, 5, 6, 7, 8, 2, 1, 0] rfl)
                · have hl : lv_has ls 9 [(8, .int (nI (kc (tk ts so) n b (lf + 1) e))), (0, .ref mo), (1, .ref row), (2, .ref ga), (3, .int (nI b)), (4, .int (nI (lf + 1))), (5, .int (nI b_)), (6, .int (nI (kc (tk ts so) n b (lf + 1) b_))), (7, .int (nI e))] := by rw [hb_] at hl; exact hl
                  have hbi := bo_in hb_
                  have q2 := (ct_le (f := tk ts so b_) (n := n) (b := b) (parts := lf + 1) (part := 0) h1).2
                  have q3 : kc (tk ts so) n b (lf + 1) e ≤ 40 := Nat.le_trans q1 hn
                  have q4 : kc (tk ts so) n b (lf + 1) b_ ≤ 40 := Nat.le_trans q2 hn
                  refine W.eq (g2 := F0 m0 60 ls [.int (-1), .int (nI b_)]) rfl ?_
                  refine lv_icmp_eq (tgt := 73) hx hb dX4_knife_60 (by decide) (fun c3 => absurd c3 (oi_m1 (by omega))) (fun c3 => ?_)
                  refine lv_iload hx hb dX4_knife_63 (lv_at hl 0 rfl) ?_
                  refine lv_iload hx hb dX4_knife_65 (lv_at hl 7 rfl) ?_
                  refine xr_clt (tgt := 73) hx hb dX4_knife_67 (by decide) (by omega) (by omega) (fun c5 => ?_) (fun c5 => ?_)
                  · refine lv_iload hx hb dX4_knife_73 (lv_at hl 8 rfl) ?_
                    refine lv_istore (lv' := [(5, .int (nI e)), (8, .int (nI (kc (tk ts so) n b (lf + 1) e))), (0, .ref mo), (1, .ref row), (2, .ref ga), (3, .int (nI b)), (4, .int (nI (lf + 1))), (6, .int (nI (kc (tk ts so) n b (lf + 1) b_))), (7, .int (nI e))]) hx hb dX4_knife_75 hl (by decide) rfl (fun ls hl => ?_)
                    refine lv_iload hx hb dX4_knife_77 (lv_at hl 1 rfl) ?_
                    refine lv_istore (lv' := [(6, .int (nI (kc (tk ts so) n b (lf + 1) e))), (5, .int (nI e)), (8, .int (nI (kc (tk ts so) n b (lf + 1) e))), (0, .ref mo), (1, .ref row), (2, .ref ga), (3, .int (nI b)), (4, .int (nI (lf + 1))), (7, .int (nI e))]) hx hb dX4_knife_79 hl (by decide) rfl (fun ls hl => ?_)
                    refine lv_iinc (v := (nI (e + 1))) (lv' := [(7, .int (nI (e + 1))), (6, .int (nI (kc (tk ts so) n b (lf + 1) e))), (5, .int (nI e)), (8, .int (nI (kc (tk ts so) n b (lf + 1) e))), (0, .ref mo), (1, .ref row), (2, .ref ga), (3, .int (nI b)), (4, .int (nI (lf + 1)))]) hx hb dX4_knife_81 hl (k := 8) rfl (nI_add e 1) (by decide) rfl (fun ls hl => ?_)
                    refine lv_goto (tgt := 26) hx hb dX4_knife_84 (by decide) ?_
                    exact ih (e + 1) (by omega) (by omega) ls (by rw [bo_lt hg_ hb_ (show 1000 - kc (tk ts so) n b (lf + 1) b_ < 1000 - kc (tk ts so) n b (lf + 1) e by omega)]; exact lv_sub hl [4, 5, 6, 7, 8, 2, 1, 0] rfl)
                  · refine lv_goto (tgt := 81) hx hb dX4_knife_70 (by decide) ?_
                    refine lv_iinc (v := (nI (e + 1))) (lv' := [(7, .int (nI (e + 1))), (8, .int (nI (kc (tk ts so) n b (lf + 1) e))), (0, .ref mo), (1, .ref row), (2, .ref ga), (3, .int (nI b)), (4, .int (nI (lf + 1))), (5, .int (nI b_)), (6, .int (nI (kc (tk ts so) n b (lf + 1) b_)))]) hx hb dX4_knife_81 hl (k := 8) rfl (nI_add e 1) (by decide) rfl (fun ls hl => ?_)
                    refine lv_goto (tgt := 26) hx hb dX4_knife_84 (by decide) ?_
                    exact ih (e + 1) (by omega) (by omega) ls (by rw [bo_ge hg_ hb_ (show ¬ 1000 - kc (tk ts so) n b (lf + 1) b_ < 1000 - kc (tk ts so) n b (lf + 1) e by omega)]; exact lv_sub hl [2, 3, 4, 5, 6, 7, 8, 0] rfl)
        exact lpE (m + 1) 0 (by omega) (by omega) ls (lv_sub hl [3, 4, 5, 6, 7, 2, 1, 0] rfl)
  exact lp (m + 1) 0 m (fun _ => false) rw (by omega) (cg_none m) rfl hm (by omega) _ _ (⟨trivial, hM⟩) hR hG hS ls (lv_sub hl [3, 4, 2, 1, 0] rfl)
