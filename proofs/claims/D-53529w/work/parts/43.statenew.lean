/-! THE COMPONENT: a state made, copied (rows printed by tools/p43.py) -/
theorem md_X1_init : gMd yX1_init 0 := by
  unfold gMd
  decide +kernel
set_option maxHeartbeats 4000000 in
set_option maxRecDepth 100000 in
theorem c_X1_init (l : Launch) (K : gK) {G : gG} {a : Nat} (hf : G a = none) : Met l yX1_init (ws_ yX1_init cX1_init 2 (Option.none : Option Jvm.ClassFile.FieldType)) (gRm 7 40 2000 191) (gPre K [.ref a] (oU G a (.inl (.inr (1, [.null, .null, .null, .float 0, .int 0, .int 0]))))) (gQv K (fun G1 => ∃ ra lo lt y, (∀ (F E : Nat → Int32) (x : Nat → Nat), sP K G1 a ra lo lt x y F E 0 (fun _ => []) 0 0 0 (fun _ => 0)) ∧ (∀ b, sA a ra lo lt y y 0 b → G b = none) ∧ ∀ b, b ≠ a → G b ≠ none → G1 b = G b)) 40 2000 (gA K) := by
  refine g_met (by decide) (Nat.le_of_ble_eq_true rfl) ?_
  intro p e s m below meth c M hr hlk hnm hR ls hl
  have M : gM K p s m _ c cX1_init 2 RX1 := M
  have hx := M.hx
  have hb := M.hb
  have hS : va_S (gA K) s.heap s.heap [] := va_S.rf
  have hl : lv_has ls 2 [(0, .ref a)] := hl
  have hob : oU G a (.inl (.inr (1, [.null, .null, .null, .float 0, .int 0, .int 0]))) a = some (.inl (.inr (1, [.null, .null, .null, .float 0, .int 0, .int 0]))) := oU_s
  refine lv_aload_n hx hb dX1_init_0 rfl (lv_at hl 0 rfl) ?_
  refine g_obj M hl.1 q98 q91 q92 dX1_init_1 (Nat.le_of_ble_eq_true rfl) (Nat.le_of_ble_eq_true rfl) ?_
  refine lv_aload_n hx hb dX1_init_4 rfl (lv_at hl 0 rfl) ?_
  refine lv_bipush (v := (6 : Int32)) hx hb dX1_init_5 (by decide) ?_
  refine g_newa M hR hS (ty := .int) rfl 0 rfl (fun C h => by cases h) q125 6 (a0 := (6, .inl (fun _ => 0))) (fun cB => rfl) rfl (by decide) (by decide) (by first | exact Nat.le_refl _ | exact Nat.zero_le _ | (dsimp only; omega)) (by first | exact Nat.le_refl _ | exact Nat.zero_le _ | (dsimp only; omega)) dX1_init_7 (fun q7 H hn7 hR hS => ?_)
  have n7 : q7 ≠ a := fun z => by rw [z, oU_s] at hn7; cases hn7
  have g7 : G q7 = none := (oU_n n7).symm.trans hn7
  obtain ⟨G1, e1, h7, k1⟩ := oU_stp (oU G a (.inl (.inr (1, [.null, .null, .null, .float 0, .int 0, .int 0])))) q7 (.inl (.inl (kC K 0, (6, .inl (fun _ => 0)))))
  rw [← e1] at hR
  have hob : G1 a = some (.inl (.inr (1, [.null, .null, .null, .float 0, .int 0, .int 0]))) := (k1 a n7.symm).trans oU_s
  have hk : ∀ b, b ≠ a → G b ≠ none → G1 b = G b := fun b b1 b2 => (k1 b (fun z => b2 (by rw [z]; exact g7))).trans (oU_n b1)
  refine g_putF (C := RX1) (T := TX1) (N := 6) M hR hS hob rfl in_X1 tyX1 tyX1_ok nmX1 0 (by decide) q189 (fun x h => h) rfl hnm rfl rfl rfl (Nat.le_of_ble_eq_true rfl) dX1_init_9 (fun H locs hR hS => ?_)
  have hR : gR K (oU G1 a (.inl (.inr (1, [.ref q7, .null, .null, .float 0, .int 0, .int 0])))) H := hR
  obtain ⟨G2, e2, hob, k2⟩ := oU_stp G1 a (.inl (.inr (1, [.ref q7, .null, .null, .float 0, .int 0, .int 0])))
  rw [← e2] at hR
  have h7 := (k2 q7 n7).trans h7
  have hk : ∀ b, b ≠ a → G b ≠ none → G2 b = G b := fun b b1 b2 => (k2 b b1).trans (hk b b1 b2)
  refine lv_aload_n hx hb dX1_init_12 rfl (lv_at hl 0 rfl) ?_
  refine g_new (ci := 8) (C := RJ2) (T := TJ2) (N := 3) (fs := [.int 0, .null, .int 0]) M hR hS in_J2 tyJ2 tyJ2_ok q99 q100 q64 rfl (by intro j hj; rcases (by omega : j = 0 ∨ j = 1 ∨ j = 2) with z | z | z <;> subst z <;> rfl) (by first | exact Nat.le_refl _ | exact Nat.zero_le _ | (dsimp only; omega)) (by first | exact Nat.le_refl _ | exact Nat.zero_le _ | (dsimp only; omega)) dX1_init_13 (fun q13 H hn13 hR hS => ?_)
  refine lv_dup hx hb dX1_init_16 rfl ?_
  have n13 : q13 ≠ a := fun z => by rw [z, hob] at hn13; cases hn13
  have m13 : q7 ≠ q13 := fun z => by rw [← z, h7] at hn13; cases hn13
  have g13 := none_of hk hn13 n13
  refine g_kv (g_I (As := []) M hR hS (c_J2_init l K hn13) q103 q64 q101 q102 0 md_J2_init rfl ⟨rfl, rfl⟩ ⟨Nat.le_of_ble_eq_true rfl, Nat.le_of_ble_eq_true rfl⟩ rfl hl.1 rfl (lv_room (Nat.le_of_ble_eq_true rfl)) dX1_init_17 ⟨(by first | exact Nat.le_refl _ | exact Nat.zero_le _ | (dsimp only; omega)), (by first | exact Nat.le_refl _ | exact Nat.zero_le _ | (dsimp only; omega))⟩) hS (fun G17 H locs hp17 hR hS => ?_)
  rw [hp17] at hR
  obtain ⟨G3, e3, h13, k3⟩ := oU_stp G2 q13 (.inr (.inl []))
  rw [← e3] at hR
  have hob := (k3 a n13.symm).trans hob
  have h7 := (k3 q7 m13).trans h7
  have hk : ∀ b, b ≠ a → G b ≠ none → G3 b = G b := fun b b1 b2 => (k3 b (fun z => b2 (by rw [z]; exact g13))).trans (hk b b1 b2)
  refine g_putF (C := RX1) (T := TX1) (N := 6) M hR hS hob rfl in_X1 tyX1 tyX1_ok nmX1 1 (by decide) q191 (fun x h => h) rfl hnm rfl rfl rfl (Nat.le_of_ble_eq_true rfl) dX1_init_20 (fun H locs hR hS => ?_)
  have hR : gR K (oU G3 a (.inl (.inr (1, [.ref q7, .ref q13, .null, .float 0, .int 0, .int 0])))) H := hR
  obtain ⟨G4, e4, hob, k4⟩ := oU_stp G3 a (.inl (.inr (1, [.ref q7, .ref q13, .null, .float 0, .int 0, .int 0])))
  rw [← e4] at hR
  have h7 := (k4 q7 n7).trans h7
  have h13 := (k4 q13 n13).trans h13
  have hk : ∀ b, b ≠ a → G b ≠ none → G4 b = G b := fun b b1 b2 => (k4 b b1).trans (hk b b1 b2)
  refine lv_aload_n hx hb dX1_init_23 rfl (lv_at hl 0 rfl) ?_
  refine g_new (ci := 8) (C := RJ2) (T := TJ2) (N := 3) (fs := [.int 0, .null, .int 0]) M hR hS in_J2 tyJ2 tyJ2_ok q99 q100 q64 rfl (by intro j hj; rcases (by omega : j = 0 ∨ j = 1 ∨ j = 2) with z | z | z <;> subst z <;> rfl) (by first | exact Nat.le_refl _ | exact Nat.zero_le _ | (dsimp only; omega)) (by first | exact Nat.le_refl _ | exact Nat.zero_le _ | (dsimp only; omega)) dX1_init_24 (fun q24 H hn24 hR hS => ?_)
  refine lv_dup hx hb dX1_init_27 rfl ?_
  have n24 : q24 ≠ a := fun z => by rw [z, hob] at hn24; cases hn24
  have m24 : q7 ≠ q24 := fun z => by rw [← z, h7] at hn24; cases hn24
  have k24 : q13 ≠ q24 := fun z => by rw [← z, h13] at hn24; cases hn24
  have g24 := none_of hk hn24 n24
  refine g_kv (g_I (As := []) M hR hS (c_J2_init l K hn24) q103 q64 q101 q102 0 md_J2_init rfl ⟨rfl, rfl⟩ ⟨Nat.le_of_ble_eq_true rfl, Nat.le_of_ble_eq_true rfl⟩ rfl hl.1 rfl (lv_room (Nat.le_of_ble_eq_true rfl)) dX1_init_28 ⟨(by first | exact Nat.le_refl _ | exact Nat.zero_le _ | (dsimp only; omega)), (by first | exact Nat.le_refl _ | exact Nat.zero_le _ | (dsimp only; omega))⟩) hS (fun G28 H locs hp28 hR hS => ?_)
  rw [hp28] at hR
  obtain ⟨G5, e5, h24, k5⟩ := oU_stp G4 q24 (.inr (.inl []))
  rw [← e5] at hR
  have hob := (k5 a n24.symm).trans hob
  have h7 := (k5 q7 m24).trans h7
  have h13 := (k5 q13 k24).trans h13
  have hk : ∀ b, b ≠ a → G b ≠ none → G5 b = G b := fun b b1 b2 => (k5 b (fun z => b2 (by rw [z]; exact g24))).trans (hk b b1 b2)
  refine g_putF (C := RX1) (T := TX1) (N := 6) M hR hS hob rfl in_X1 tyX1 tyX1_ok nmX1 2 (by decide) q193 (fun x h => h) rfl hnm rfl rfl rfl (Nat.le_of_ble_eq_true rfl) dX1_init_31 (fun H locs hR hS => ?_)
  have hR : gR K (oU G5 a (.inl (.inr (1, [.ref q7, .ref q13, .ref q24, .float 0, .int 0, .int 0])))) H := hR
  obtain ⟨G6, e6, hob, k6⟩ := oU_stp G5 a (.inl (.inr (1, [.ref q7, .ref q13, .ref q24, .float 0, .int 0, .int 0])))
  rw [← e6] at hR
  have h7 := (k6 q7 n7).trans h7
  have h13 := (k6 q13 n13).trans h13
  have h24 := (k6 q24 n24).trans h24
  have hk : ∀ b, b ≠ a → G b ≠ none → G6 b = G b := fun b b1 b2 => (k6 b b1).trans (hk b b1 b2)
  refine lv_iconst (v := (0 : Int32)) hx hb dX1_init_34 (by decide) ?_
  refine lv_istore_n (lv' := [(1, _), (0, _)]) hx hb dX1_init_35 rfl hl (by decide) rfl (fun ls hl => ?_)
  refine g_loop (pc := 36) (fun (k : Nat) (ls : Array Slot) (G9 : gG) (cells slots : Nat) => ∃ j y, lv_has ls 2 [(1, .int (nI j)), (0, .ref a)] ∧ j ≤ 16 ∧ k = 16 - j ∧ G9 a = some (.inl (.inr (1, [.ref q7, .ref q13, .ref q24, .float 0, .int 0, .int 0]))) ∧ G9 q7 = some (.inl (.inl (kC K 0, (6, .inl (fun _ => 0))))) ∧ G9 q13 = some (.inr (.inl [])) ∧ G9 q24 = some (.inr (.inl ((List.range j).map y))) ∧ (∀ w, w < j → G9 (y w) = some (.inr (.inl [])) ∧ G (y w) = none ∧ y w ≠ a) ∧ (∀ w w9, w < j → w9 < j → y w = y w9 → w = w9) ∧ (∀ w, w < j → y w ≠ q13 ∧ y w ≠ q24) ∧ (∀ b, b ≠ a → G b ≠ none → G9 b = G b) ∧ cells ≤ 3 + 2 * j ∧ slots ≤ 12 + 103 * j) ?_ (16) ⟨0, (fun _ => 0), lv_sub hl [0, 1] rfl, by omega, rfl, hob, h7, h13, h24, (fun w hw => absurd hw (Nat.not_lt_zero _)), (fun w w9 hw => absurd hw (Nat.not_lt_zero _)), (fun w hw => absurd hw (Nat.not_lt_zero _)), hk, (by omega), (by omega)⟩ hR hS
  intro k ls G9 H locs cells slots hI hR hS ih36
  obtain ⟨j, y, hl, hj, rfl, hob, h7, h13, h24, hy, hyi, hyl, hk, hce, hsl⟩ := hI
  refine lv_iload_n hx hb dX1_init_36 rfl (lv_at hl 0 rfl) ?_
  refine lv_bipush (v := (16 : Int32)) hx hb dX1_init_37 (by decide) ?_
  refine lv_icmp_ge (tgt := 65) hx hb dX1_init_39 (by decide) (fun c39 => ?_) (fun c39 => ?_)
  · have hj16 : j = 16 := eq_of_ge (n := 16) c39 hj (by decide)
    subst hj16
    exact g_vret M hr hlk hR hS (by omega) (by omega) dX1_init_65 (⟨q7, q13, q24, y, fun F E x => ⟨hob, h7, h13, h24, fun w hw => (hy w hw).1, fun o ho => absurd ho (Nat.not_lt_zero _), fun o o9 ho => absurd ho (Nat.not_lt_zero _), hyi, k24, hyl, fun w hw o ho => by cases ho⟩, fun b hb => by rcases hb with e | e | e | e | ⟨w, hw, e⟩ | ⟨o, ho, e⟩; rw [e]; exact hf; rw [e]; exact g7; rw [e]; exact g13; rw [e]; exact g24; rw [e]; exact (hy w hw).2.1; omega, hk⟩)
  · have hj2 : j < 16 := lt_of_not (n := 16) c39 (by omega)
    refine lv_aload_n hx hb dX1_init_42 rfl (lv_at hl 1 rfl) ?_
    refine g_get (C := RX1) (T := TX1) (N := 6) M hR hob rfl in_X1 2 (by decide) q193 (fun x h => h) rfl dX1_init_43 ?_
    refine g_new (ci := 8) (C := RJ2) (T := TJ2) (N := 3) (fs := [.int 0, .null, .int 0]) M hR hS in_J2 tyJ2 tyJ2_ok q99 q100 q64 rfl (by intro j hj; rcases (by omega : j = 0 ∨ j = 1 ∨ j = 2) with z | z | z <;> subst z <;> rfl) (by first | exact Nat.le_refl _ | exact Nat.zero_le _ | (dsimp only; omega)) (by first | exact Nat.le_refl _ | exact Nat.zero_le _ | (dsimp only; omega)) dX1_init_46 (fun q46 H hn46 hR hS => ?_)
    refine lv_dup hx hb dX1_init_49 rfl ?_
    have hna : q46 ≠ a := fun z => by rw [z, hob] at hn46; cases hn46
    have hn13b : q46 ≠ q13 := fun z => by rw [z, h13] at hn46; cases hn46
    have hn24b : q46 ≠ q24 := fun z => by rw [z, h24] at hn46; cases hn46
    have hn7b : q46 ≠ q7 := fun z => by rw [z, h7] at hn46; cases hn46
    have hny : ∀ w, w < j → y w ≠ q46 := fun w hw z => by rw [← z, (hy w hw).1] at hn46; cases hn46
    have g46 := none_of hk hn46 hna
    refine g_kv (g_I (As := []) M hR hS (c_J2_init l K hn46) q103 q64 q101 q102 0 md_J2_init rfl ⟨rfl, rfl⟩ ⟨Nat.le_of_ble_eq_true rfl, Nat.le_of_ble_eq_true rfl⟩ rfl hl.1 rfl (lv_room (Nat.le_of_ble_eq_true rfl)) dX1_init_50 ⟨(by first | exact Nat.le_refl _ | exact Nat.zero_le _ | (dsimp only; omega)), (by first | exact Nat.le_refl _ | exact Nat.zero_le _ | (dsimp only; omega))⟩) hS (fun G50 H locs hp50 hR hS => ?_)
    rw [hp50] at hR
    have h24s : oU G9 q46 (.inr (.inl [])) q24 = _ := (oU_n hn24b.symm).trans h24
    refine g_k5i (g_F (As := [_]) (ci := 8) M hR hS (c_J2_add l K h24s (fun b hb => by obtain ⟨w, hw, rfl⟩ := List.mem_map.mp hb; have hw2 := List.mem_range.mp hw; exact Or.inr ⟨_, (oU_n (hny w hw2)).trans (hy w hw2).1⟩) (Or.inr ⟨_, oU_s⟩) (by simp; omega)) rfl (by decide) q127 q131 q133 q64 q135 1 md_i_J2_add ⟨rfl, rfl⟩ ⟨Nat.le_of_ble_eq_true rfl, Nat.le_of_ble_eq_true rfl⟩ (hR.recvL M h24s) rfl hl.1 rfl (lv_room (Nat.le_of_ble_eq_true rfl)) dX1_init_53 ⟨(by first | exact Nat.le_refl _ | exact Nat.zero_le _ | (dsimp only; omega)), (by first | exact Nat.le_refl _ | exact Nat.zero_le _ | (dsimp only; omega))⟩) hS (fun r53 G53 H locs hp53 hR hS => ?_)
    obtain ⟨rfl, e53⟩ := hp53
    rw [e53] at hR
    refine lv_pop hx hb dX1_init_58 rfl ?_
    refine g_inc (lv' := [(1, _), (0, _)]) M dX1_init_59 hl (k := 0) rfl (by decide) rfl (fun ls hl => ?_)
    refine lv_goto (tgt := 36) hx hb dX1_init_62 (by decide) ?_
    exact ih36 (16 - (j + 1)) _ _ _ _ _ _ (by omega) ⟨j + 1, va_upN y j q46, lv_sub hl [0, 1] rfl, by omega, rfl, (oU_n n24.symm).trans ((oU_n hna.symm).trans hob), (oU_n m24).trans ((oU_n hn7b.symm).trans h7), (oU_n k24).trans ((oU_n hn13b.symm).trans h13), (by rw [oU_s, map_up]), in_y hy hny hyl g46 hna hn24b, in_i hyi hny, in_l hyl hn13b hn24b, (fun b b1 b2 => (oU_n (fun z => b2 (by rw [z]; exact g24))).trans ((oU_n (fun z => b2 (by rw [z]; exact g46))).trans (hk b b1 b2))), (by omega), (by omega)⟩ hR hS

theorem md_X1_copy : gMd yX1_copy 0 := by
  unfold gMd
  decide +kernel
set_option maxHeartbeats 4000000 in
set_option maxRecDepth 100000 in
theorem c_X1_copy (l : Launch) (K : gK) {G : gG} {a ra lo lt : Nat} {x y : Nat → Nat} {F E : Nat → Int32} {N : Nat} (h : sR K G a ra lo lt x y F E N)  : Met l yX1_copy (ws_ yX1_copy cX1_copy 4 (Option.some (Jvm.ClassFile.FieldType.object "NailedOrders$State"))) (gRm 8 200 12000 212) (gPre K [.ref a] G) (gQq K (fun r G1 => ∃ q r2 l2 t2 x2 y2, r = some q ∧ sR K G1 q r2 l2 t2 x2 y2 F E N ∧ (∀ b, sA q r2 l2 t2 x2 y2 N b → G b = none) ∧ ∀ b, G b ≠ none → G1 b = G b)) 200 12000 (gA K) := by
  refine g_met (by decide) (Nat.le_of_ble_eq_true rfl) ?_
  intro p e s m below meth c M hr hlk hnm hR ls hl
  have M : gM K p s m _ c cX1_copy 4 RX1 := M
  have hx := M.hx
  have hb := M.hb
  have hS : va_S (gA K) s.heap s.heap [] := va_S.rf
  have hl : lv_has ls 4 [(0, .ref a)] := hl
  have hs9 := h
  have h40 := h.n40
  have hall := hn_cnt N h.word
  have hcl := fCnt_le (fHg F) 0 N
  have hnle : ∀ w, w ≤ 16 → fHn F N w ≤ N := fun w hw => by have := hn_le (F := F) (N := N) (16 - w) w; rw [show w + (16 - w) = 16 by omega, hall] at this; omega
  refine g_new (ci := 1) (C := RX1) (T := TX1) (N := 6) (fs := [.null, .null, .null, .float 0, .int 0, .int 0]) M hR hS in_X1 tyX1 tyX1_ok q272 q94 q61 rfl (by intro j hj; rcases (by omega : j = 0 ∨ j = 1 ∨ j = 2 ∨ j = 3 ∨ j = 4 ∨ j = 5) with z | z | z | z | z | z <;> subst z <;> rfl) (by first | exact Nat.le_refl _ | exact Nat.zero_le _ | (dsimp only; omega)) (by first | exact Nat.le_refl _ | exact Nat.zero_le _ | (dsimp only; omega)) dX1_copy_0 (fun q0 H hn0 hR hS => ?_)
  refine lv_dup hx hb dX1_copy_3 rfl ?_
  refine g_kv (g_I (As := []) M hR hS (c_X1_init l K hn0) q97 q61 q273 q96 0 md_X1_init rfl ⟨rfl, rfl⟩ ⟨Nat.le_of_ble_eq_true rfl, Nat.le_of_ble_eq_true rfl⟩ rfl hl.1 rfl (lv_room (Nat.le_of_ble_eq_true rfl)) dX1_copy_4 ⟨(by first | exact Nat.le_refl _ | exact Nat.zero_le _ | (dsimp only; omega)), (by first | exact Nat.le_refl _ | exact Nat.zero_le _ | (dsimp only; omega))⟩) hS (fun G4 H locs hp4 hR hS => ?_)
  obtain ⟨ra4, lo4, lt4, y4, h4, hn4, hk4⟩ := hp4
  have hs9 := h.to (fun b hb => hk4 b (fun z => h.some hb (by rw [z]; exact hn0)) (h.some hb))
  have hc9 := h4 F E (fun _ => 0)
  obtain ⟨rf, hrf, hrv⟩ := hs9.ranks
  refine lv_astore_n (lv' := [(1, _), (0, _)]) hx hb dX1_copy_7 rfl hl (by decide) rfl (fun ls hl => ?_)
  refine lv_aload_n hx hb dX1_copy_8 rfl (lv_at hl 1 rfl) ?_
  refine g_get (C := RX1) (T := TX1) (N := 6) M hR hs9.obj rfl in_X1 0 (by decide) q189 (fun x h => h) rfl dX1_copy_9 ?_
  refine lv_iconst (v := (0 : Int32)) hx hb dX1_copy_12 (by decide) ?_
  refine lv_aload_n hx hb dX1_copy_13 rfl (lv_at hl 0 rfl) ?_
  refine g_get (C := RX1) (T := TX1) (N := 6) M hR hc9.obj rfl in_X1 0 (by decide) q189 (fun x h => h) rfl dX1_copy_14 ?_
  refine lv_iconst (v := (0 : Int32)) hx hb dX1_copy_17 (by decide) ?_
  refine lv_bipush (v := (6 : Int32)) hx hb dX1_copy_18 (by decide) ?_
  refine g_cpi M hR hS hl.1 q274 q186 q185 q68 0 rfl rfl hrf hc9.ranks 0 0 6 rfl rfl rfl (by decide) (by decide) (by decide) (by decide) (by decide) (by decide) (fun i hi => rfl) (Nat.le_of_ble_eq_true rfl) (Nat.le_of_ble_eq_true rfl) dX1_copy_20 (fun H locs hR hS => ?_)
  obtain ⟨G5, e5, -, k5⟩ := oU_stp G4 ra4 (.inl (.inl (kC K 0, (6, .inl (va_cpy rf (fun _ => 0) 0 0 6)))))
  have hc9 := hc9.rnk (va_cpy rf (fun _ => 0) 0 0 6)
  rw [← e5] at hR hc9
  have hfr9 : ∀ b, sA q0 ra4 lo4 lt4 (fun _ => 0) y4 0 b → G b = none := fun b hb => hn4 b (sA_0 hb)
  have hk9 : ∀ b, G b ≠ none → G5 b = G b := by rw [e5]; exact keep_u (fun b hb => hk4 b (fun z => hb (by rw [z]; exact hn0)) hb) (hfr9 ra4 (Or.inr (Or.inl rfl)))
  have hrv2 : ∀ p, p < 6 → (va_cpy rf (fun _ => 0) 0 0 6) p = F (6 + p) := fun p hp => (sb_cpy0 hp).trans (hrv p hp)
  refine lv_iconst (v := (0 : Int32)) hx hb dX1_copy_23 (by decide) ?_
  refine lv_istore_n (lv' := [(2, _), (1, _), (0, _)]) hx hb dX1_copy_24 rfl hl (by decide) rfl (fun ls hl => ?_)
  refine g_loop (pc := 25) (fun (k : Nat) (ls : Array Slot) (G9 : gG) (cells slots : Nat) => ∃ j x9, lv_has ls 4 [(2, .int (nI j)), (1, .ref q0), (0, .ref a)] ∧ j ≤ N ∧ k = N - j ∧ sP K G9 q0 ra4 lo4 lt4 x9 y4 F E j (fun _ => []) 0 0 0 (va_cpy rf (fun _ => 0) 0 0 6) ∧ (∀ b, sA q0 ra4 lo4 lt4 x9 y4 j b → G b = none) ∧ (∀ b, G b ≠ none → G9 b = G b) ∧ cells ≤ 41 + 2 * j ∧ slots ≤ 2006 + 108 * j) ?_ (N) ⟨0, (fun _ => 0), lv_sub hl [0, 1, 2] rfl, by omega, rfl, hc9, hfr9, hk9, (by omega), (by omega)⟩ hR hS
  intro k ls G9 H locs cells slots hI hR hS ih25
  obtain ⟨j, x9, hl, hj, rfl, hc9, hfr9, hk9, hce, hsl⟩ := hI
  have hs9 := h.to (fun b hb => hk9 b (h.some hb))
  refine lv_iload_n hx hb dX1_copy_25 rfl (lv_at hl 0 rfl) ?_
  refine lv_aload_n hx hb dX1_copy_26 rfl (lv_at hl 2 rfl) ?_
  refine g_get (C := RX1) (T := TX1) (N := 6) M hR hs9.obj rfl in_X1 1 (by decide) q191 (fun x h => h) rfl dX1_copy_27 ?_
  refine g_k5i (g_F (As := []) (ci := 8) M hR hS (c_sizeX l K hs9.orders) rfl (by decide) q276 q279 q281 q64 q283 0 md_i_J2_size ⟨rfl, rfl⟩ ⟨Nat.le_of_ble_eq_true rfl, Nat.le_of_ble_eq_true rfl⟩ (hR.recvL M hs9.orders) rfl hl.1 rfl (lv_room (Nat.le_of_ble_eq_true rfl)) dX1_copy_30 ⟨(by first | exact Nat.le_refl _ | exact Nat.zero_le _ | (dsimp only; omega)), (by first | exact Nat.le_refl _ | exact Nat.zero_le _ | (dsimp only; omega))⟩) hS (fun r30 G30 H locs hp30 hR hS => ?_)
  obtain ⟨rfl, e30⟩ := hp30
  rw [e30] at hR
  refine lv_icmp_ge (tgt := 70) hx hb dX1_copy_35 (by decide) (fun c35 => ?_) (fun c35 => ?_)
  · have hjN : j = N := eq_of_ge c35 hj (by omega)
    rw [hjN] at hc9 hfr9 hce hsl
    refine lv_iconst (v := (0 : Int32)) hx hb dX1_copy_70 (by decide) ?_
    refine lv_istore_n (lv' := [(2, _), (1, _), (0, _)]) hx hb dX1_copy_71 rfl hl (by decide) rfl (fun ls hl => ?_)
    refine g_loop (pc := 72) (fun (k : Nat) (ls : Array Slot) (G9 : gG) (cells slots : Nat) => ∃ w9, lv_has ls 4 [(2, .int (nI w9)), (1, .ref q0), (0, .ref a)] ∧ w9 ≤ 16 ∧ k = 16 - w9 ∧ sP K G9 q0 ra4 lo4 lt4 x9 y4 F E N (stP F N w9 0) 0 0 0 (va_cpy rf (fun _ => 0) 0 0 6) ∧ (∀ b, G b ≠ none → G9 b = G b) ∧ cells ≤ 41 + 2 * N + fHn F N w9 ∧ slots ≤ 2006 + 108 * N + 100 * fHn F N w9) ?_ (16) ⟨0, lv_sub hl [0, 1, 2] rfl, by omega, rfl, hc9.sts (fun w hw => stP_00 w), hk9, (by show _ ≤ 41 + 2 * N + 0; omega), (by show _ ≤ 2006 + 108 * N + 100 * 0; omega)⟩ hR hS
    intro k ls G9 H locs cells slots hI hR hS ih72
    obtain ⟨w9, hl, hj, rfl, hc9, hk9, hce, hsl⟩ := hI
    have hs9 := h.to (fun b hb => hk9 b (h.some hb))
    have hnw := hnle w9 hj
    refine lv_iload_n hx hb dX1_copy_72 rfl (lv_at hl 0 rfl) ?_
    refine lv_bipush (v := (16 : Int32)) hx hb dX1_copy_73 (by decide) ?_
    refine lv_icmp_ge (tgt := 170) hx hb dX1_copy_75 (by decide) (fun c75 => ?_) (fun c75 => ?_)
    · have hw6 : w9 = 16 := eq_of_ge (n := 16) c75 hj (by decide)
      subst hw6
      refine lv_aload_n hx hb dX1_copy_170 rfl (lv_at hl 1 rfl) ?_
      refine lv_aload_n hx hb dX1_copy_171 rfl (lv_at hl 2 rfl) ?_
      refine g_get (C := RX1) (T := TX1) (N := 6) M hR hs9.obj rfl in_X1 3 (by decide) q195 (fun x h => h) rfl dX1_copy_172 ?_
      refine g_put (C := RX1) (T := TX1) (N := 6) M hR hS hc9.obj rfl in_X1 tyX1 tyX1_ok nmX1 3 (by decide) q195 (fun x h => h) rfl rfl rfl (Nat.le_of_ble_eq_true rfl) dX1_copy_175 (fun H locs hR hS => ?_)
      have hR : gR K (oU G9 q0 (.inl (.inr (1, [.ref ra4, .ref lo4, .ref lt4, .float (F 5).toUInt32, .int 0, .int 0])))) H := hR
      obtain ⟨G6, e6, -, k6⟩ := oU_stp G9 q0 (.inl (.inr (1, [.ref ra4, .ref lo4, .ref lt4, .float (F 5).toUInt32, .int 0, .int 0])))
      have hc9 := hc9.scal (F 5).toUInt32 0 0
      rw [← e6] at hR hc9
      have hk9 : ∀ b, G b ≠ none → G6 b = G b := by rw [e6]; exact keep_u hk9 hn0
      have hs9 := h.to (fun b hb => hk9 b (h.some hb))
      refine lv_aload_n hx hb dX1_copy_178 rfl (lv_at hl 1 rfl) ?_
      refine lv_aload_n hx hb dX1_copy_179 rfl (lv_at hl 2 rfl) ?_
      refine g_get (C := RX1) (T := TX1) (N := 6) M hR hs9.obj rfl in_X1 4 (by decide) q197 (fun x h => h) rfl dX1_copy_180 ?_
      refine g_put (C := RX1) (T := TX1) (N := 6) M hR hS hc9.obj rfl in_X1 tyX1 tyX1_ok nmX1 4 (by decide) q197 (fun x h => h) rfl rfl rfl (Nat.le_of_ble_eq_true rfl) dX1_copy_183 (fun H locs hR hS => ?_)
      have hR : gR K (oU G6 q0 (.inl (.inr (1, [.ref ra4, .ref lo4, .ref lt4, .float (F 5).toUInt32, .int (F 0), .int 0])))) H := hR
      obtain ⟨G7, e7, -, k7⟩ := oU_stp G6 q0 (.inl (.inr (1, [.ref ra4, .ref lo4, .ref lt4, .float (F 5).toUInt32, .int (F 0), .int 0])))
      have hc9 := hc9.scal (F 5).toUInt32 (F 0) 0
      rw [← e7] at hR hc9
      have hk9 : ∀ b, G b ≠ none → G7 b = G b := by rw [e7]; exact keep_u hk9 hn0
      have hs9 := h.to (fun b hb => hk9 b (h.some hb))
      refine lv_aload_n hx hb dX1_copy_186 rfl (lv_at hl 1 rfl) ?_
      refine lv_aload_n hx hb dX1_copy_187 rfl (lv_at hl 2 rfl) ?_
      refine g_get (C := RX1) (T := TX1) (N := 6) M hR hs9.obj rfl in_X1 5 (by decide) q199 (fun x h => h) rfl dX1_copy_188 ?_
      refine g_put (C := RX1) (T := TX1) (N := 6) M hR hS hc9.obj rfl in_X1 tyX1 tyX1_ok nmX1 5 (by decide) q199 (fun x h => h) rfl rfl rfl (Nat.le_of_ble_eq_true rfl) dX1_copy_191 (fun H locs hR hS => ?_)
      have hR : gR K (oU G7 q0 (.inl (.inr (1, [.ref ra4, .ref lo4, .ref lt4, .float (F 5).toUInt32, .int (F 0), .int (F 4)])))) H := hR
      obtain ⟨G8, e8, -, k8⟩ := oU_stp G7 q0 (.inl (.inr (1, [.ref ra4, .ref lo4, .ref lt4, .float (F 5).toUInt32, .int (F 0), .int (F 4)])))
      have hc9 := hc9.scal (F 5).toUInt32 (F 0) (F 4)
      rw [← e8] at hR hc9
      have hk9 : ∀ b, G b ≠ none → G8 b = G b := by rw [e8]; exact keep_u hk9 hn0
      have hs9 := h.to (fun b hb => hk9 b (h.some hb))
      refine lv_aload_n hx hb dX1_copy_194 rfl (lv_at hl 1 rfl) ?_
      exact g_qret M hr (Or.inl ⟨_, rfl⟩) hlk (some _) rfl hR hS (by omega) (by omega) dX1_copy_195 (⟨q0, ra4, lo4, lt4, x9, y4, rfl, hc9.done hrv2 h40 h.word h.who h.fate, hfr9, hk9⟩)
    · have hw9 : w9 < 16 := lt_of_not (n := 16) c75 (by omega)
      have hnw2 : fHn F N w9 + (fStk F (nI w9) N).length ≤ N := hnle (w9 + 1) hw9
      refine lv_iconst (v := (0 : Int32)) hx hb dX1_copy_78 (by decide) ?_
      refine lv_istore_n (lv' := [(3, _), (2, _), (1, _), (0, _)]) hx hb dX1_copy_79 rfl hl (by decide) rfl (fun ls hl => ?_)
      refine g_loop (pc := 80) (fun (k : Nat) (ls : Array Slot) (G9 : gG) (cells slots : Nat) => ∃ i, lv_has ls 4 [(3, .int (nI i)), (2, .int (nI w9)), (1, .ref q0), (0, .ref a)] ∧ i ≤ (fStk F (nI w9) N).length ∧ k = (fStk F (nI w9) N).length - i ∧ sP K G9 q0 ra4 lo4 lt4 x9 y4 F E N (stP F N w9 i) 0 0 0 (va_cpy rf (fun _ => 0) 0 0 6) ∧ (∀ b, G b ≠ none → G9 b = G b) ∧ cells ≤ 41 + 2 * N + fHn F N w9 + i ∧ slots ≤ 2006 + 108 * N + 100 * (fHn F N w9 + i)) ?_ ((fStk F (nI w9) N).length) ⟨0, lv_sub hl [0, 1, 2, 3] rfl, Nat.zero_le _, rfl, hc9, hk9, (by omega), (by omega)⟩ hR hS
      intro k ls G9 H locs cells slots hI hR hS ih80
      obtain ⟨i, hl, hi9, rfl, hc9, hk9, hce, hsl⟩ := hI
      have hs9 := h.to (fun b hb => hk9 b (h.some hb))
      refine lv_iload_n hx hb dX1_copy_80 rfl (lv_at hl 0 rfl) ?_
      refine lv_aload_n hx hb dX1_copy_81 rfl (lv_at hl 3 rfl) ?_
      refine g_get (C := RX1) (T := TX1) (N := 6) M hR hs9.obj rfl in_X1 2 (by decide) q193 (fun x h => h) rfl dX1_copy_82 ?_
      refine lv_iload_n hx hb dX1_copy_85 rfl (lv_at hl 1 rfl) ?_
      refine g_k5q (g_F (As := [_]) (ci := 8) M hR hS (c_getX l K hs9.stacks w9 hw9) rfl (by decide) q285 q288 q290 q64 q292 1 md_i_J2_get ⟨rfl, rfl⟩ ⟨Nat.le_of_ble_eq_true rfl, Nat.le_of_ble_eq_true rfl⟩ (hR.recvL M hs9.stacks) rfl hl.1 rfl (lv_room (Nat.le_of_ble_eq_true rfl)) dX1_copy_86 ⟨(by first | exact Nat.le_refl _ | exact Nat.zero_le _ | (dsimp only; omega)), (by first | exact Nat.le_refl _ | exact Nat.zero_le _ | (dsimp only; omega))⟩) hS (fun r86 G86 H locs hp86 hR hS => ?_)
      obtain ⟨rfl, e86⟩ := hp86
      rw [e86] at hR
      refine l_cast M hR (hs9.stack w9 hw9) q385 dX1_copy_91 ?_
      refine g_k5i (g_F (As := []) (ci := 8) M hR hS (c_sizeS l K (hs9.stack w9 hw9)) rfl (by decide) q276 q279 q281 q64 q283 0 md_i_J2_size ⟨rfl, rfl⟩ ⟨Nat.le_of_ble_eq_true rfl, Nat.le_of_ble_eq_true rfl⟩ (hR.recvL M (hs9.stack w9 hw9)) rfl hl.1 rfl (lv_room (Nat.le_of_ble_eq_true rfl)) dX1_copy_94 ⟨(by first | exact Nat.le_refl _ | exact Nat.zero_le _ | (dsimp only; omega)), (by first | exact Nat.le_refl _ | exact Nat.zero_le _ | (dsimp only; omega))⟩) hS (fun r94 G94 H locs hp94 hR hS => ?_)
      obtain ⟨rfl, e94⟩ := hp94
      rw [e94] at hR
      refine lv_icmp_ge (tgt := 164) hx hb dX1_copy_99 (by decide) (fun c99 => ?_) (fun c99 => ?_)
      · have hie : i = (fStk F (nI w9) N).length := eq_of_ge c99 hi9 (by omega)
        rw [hie] at hc9 hce hsl
        refine g_inc (lv' := [(2, _), (3, _), (1, _), (0, _)]) M dX1_copy_164 hl (k := 1) rfl (by decide) rfl (fun ls hl => ?_)
        refine lv_goto (tgt := 72) hx hb dX1_copy_167 (by decide) ?_
        exact ih72 (16 - (w9 + 1)) _ _ _ _ _ _ (by omega) ⟨w9 + 1, lv_sub hl [0, 2, 3] rfl, by omega, rfl, hc9.sts (fun w hw => stP_e w), hk9, (by show _ ≤ 41 + 2 * N + (fHn F N w9 + (fStk F (nI w9) N).length); omega), (by show _ ≤ 2006 + 108 * N + 100 * (fHn F N w9 + (fStk F (nI w9) N).length); omega)⟩ hR hS
      · have hil : i < (fStk F (nI w9) N).length := lt_of_not c99 (by omega)
        have hoi := (stk_lt (List.getElem_mem hil)).1
        refine lv_aload_n hx hb dX1_copy_102 rfl (lv_at hl 2 rfl) ?_
        refine g_get (C := RX1) (T := TX1) (N := 6) M hR hc9.obj rfl in_X1 2 (by decide) q193 (fun x h => h) rfl dX1_copy_103 ?_
        refine lv_iload_n hx hb dX1_copy_106 rfl (lv_at hl 1 rfl) ?_
        refine g_k5q (g_F (As := [_]) (ci := 8) M hR hS (c_getX l K hc9.stacks w9 hw9) rfl (by decide) q285 q288 q290 q64 q292 1 md_i_J2_get ⟨rfl, rfl⟩ ⟨Nat.le_of_ble_eq_true rfl, Nat.le_of_ble_eq_true rfl⟩ (hR.recvL M hc9.stacks) rfl hl.1 rfl (lv_room (Nat.le_of_ble_eq_true rfl)) dX1_copy_107 ⟨(by first | exact Nat.le_refl _ | exact Nat.zero_le _ | (dsimp only; omega)), (by first | exact Nat.le_refl _ | exact Nat.zero_le _ | (dsimp only; omega))⟩) hS (fun r107 G107 H locs hp107 hR hS => ?_)
        obtain ⟨rfl, e107⟩ := hp107
        rw [e107] at hR
        refine l_cast M hR (hc9.stack w9 hw9) q385 dX1_copy_112 ?_
        refine lv_aload_n hx hb dX1_copy_115 rfl (lv_at hl 2 rfl) ?_
        refine g_get (C := RX1) (T := TX1) (N := 6) M hR hc9.obj rfl in_X1 1 (by decide) q191 (fun x h => h) rfl dX1_copy_116 ?_
        refine lv_aload_n hx hb dX1_copy_119 rfl (lv_at hl 3 rfl) ?_
        refine g_get (C := RX1) (T := TX1) (N := 6) M hR hs9.obj rfl in_X1 2 (by decide) q193 (fun x h => h) rfl dX1_copy_120 ?_
        refine lv_iload_n hx hb dX1_copy_123 rfl (lv_at hl 1 rfl) ?_
        refine g_k5q (g_F (As := [_]) (ci := 8) M hR hS (c_getX l K hs9.stacks w9 hw9) rfl (by decide) q285 q288 q290 q64 q292 1 md_i_J2_get ⟨rfl, rfl⟩ ⟨Nat.le_of_ble_eq_true rfl, Nat.le_of_ble_eq_true rfl⟩ (hR.recvL M hs9.stacks) rfl hl.1 rfl (lv_room (Nat.le_of_ble_eq_true rfl)) dX1_copy_124 ⟨(by first | exact Nat.le_refl _ | exact Nat.zero_le _ | (dsimp only; omega)), (by first | exact Nat.le_refl _ | exact Nat.zero_le _ | (dsimp only; omega))⟩) hS (fun r124 G124 H locs hp124 hR hS => ?_)
        obtain ⟨rfl, e124⟩ := hp124
        rw [e124] at hR
        refine l_cast M hR (hs9.stack w9 hw9) q385 dX1_copy_129 ?_
        refine lv_iload_n hx hb dX1_copy_132 rfl (lv_at hl 0 rfl) ?_
        refine g_k5q (g_F (As := [_]) (ci := 8) M hR hS (c_getS l K (hs9.stack w9 hw9) i hil) rfl (by decide) q285 q288 q290 q64 q292 1 md_i_J2_get ⟨rfl, rfl⟩ ⟨Nat.le_of_ble_eq_true rfl, Nat.le_of_ble_eq_true rfl⟩ (hR.recvL M (hs9.stack w9 hw9)) rfl hl.1 rfl (lv_room (Nat.le_of_ble_eq_true rfl)) dX1_copy_133 ⟨(by first | exact Nat.le_refl _ | exact Nat.zero_le _ | (dsimp only; omega)), (by first | exact Nat.le_refl _ | exact Nat.zero_le _ | (dsimp only; omega))⟩) hS (fun r133 G133 H locs hp133 hR hS => ?_)
        obtain ⟨rfl, e133⟩ := hp133
        rw [e133] at hR
        refine o_cast M hR (hs9.order _ hoi) q303 dX1_copy_138 ?_
        refine o_get0 M hR (hs9.order _ hoi) q323 dX1_copy_141 ?_
        refine g_k5q (g_F (As := [_]) (ci := 8) M hR hS (c_getX l K hc9.orders _ hoi) rfl (by decide) q285 q288 q290 q64 q292 1 md_i_J2_get ⟨rfl, rfl⟩ ⟨Nat.le_of_ble_eq_true rfl, Nat.le_of_ble_eq_true rfl⟩ (hR.recvL M hc9.orders) rfl hl.1 rfl (lv_room (Nat.le_of_ble_eq_true rfl)) dX1_copy_144 ⟨(by first | exact Nat.le_refl _ | exact Nat.zero_le _ | (dsimp only; omega)), (by first | exact Nat.le_refl _ | exact Nat.zero_le _ | (dsimp only; omega))⟩) hS (fun r144 G144 H locs hp144 hR hS => ?_)
        obtain ⟨rfl, e144⟩ := hp144
        rw [e144] at hR
        refine o_cast M hR (hc9.order _ hoi) q303 dX1_copy_149 ?_
        refine g_k5i (g_F (As := [_]) (ci := 8) M hR hS (c_J2_add l K (hc9.stack w9 hw9) (hc9.obL hw9) (hc9.obO hoi) (by rw [stP_w, List.length_map, List.length_take]; omega)) rfl (by decide) q127 q131 q133 q64 q135 1 md_i_J2_add ⟨rfl, rfl⟩ ⟨Nat.le_of_ble_eq_true rfl, Nat.le_of_ble_eq_true rfl⟩ (hR.recvL M (hc9.stack w9 hw9)) rfl hl.1 rfl (lv_room (Nat.le_of_ble_eq_true rfl)) dX1_copy_152 ⟨(by first | exact Nat.le_refl _ | exact Nat.zero_le _ | (dsimp only; omega)), (by first | exact Nat.le_refl _ | exact Nat.zero_le _ | (dsimp only; omega))⟩) hS (fun r152 G152 H locs hp152 hR hS => ?_)
        obtain ⟨rfl, e152⟩ := hp152
        rw [e152] at hR
        refine lv_pop hx hb dX1_copy_157 rfl ?_
        refine g_inc (lv' := [(3, _), (2, _), (1, _), (0, _)]) M dX1_copy_158 hl (k := 0) rfl (by decide) rfl (fun ls hl => ?_)
        refine lv_goto (tgt := 80) hx hb dX1_copy_161 (by decide) ?_
        exact ih80 ((fStk F (nI w9) N).length - (i + 1)) _ _ _ _ _ _ (by omega) ⟨i + 1, lv_sub hl [0, 1, 2, 3] rfl, by omega, rfl, (hc9.hang hw9 hoi).sts (fun w hw => stP_s hil w), keep_u hk9 (hfr9 _ (Or.inr (Or.inr (Or.inr (Or.inr (Or.inl ⟨w9, hw9, rfl⟩)))))), (by omega), (by omega)⟩ hR hS
  · have hjN : j < N := lt_of_not c35 (by omega)
    refine lv_aload_n hx hb dX1_copy_38 rfl (lv_at hl 1 rfl) ?_
    refine g_get (C := RX1) (T := TX1) (N := 6) M hR hc9.obj rfl in_X1 1 (by decide) q191 (fun x h => h) rfl dX1_copy_39 ?_
    refine lv_aload_n hx hb dX1_copy_42 rfl (lv_at hl 2 rfl) ?_
    refine g_get (C := RX1) (T := TX1) (N := 6) M hR hs9.obj rfl in_X1 1 (by decide) q191 (fun x h => h) rfl dX1_copy_43 ?_
    refine lv_iload_n hx hb dX1_copy_46 rfl (lv_at hl 0 rfl) ?_
    refine g_k5q (g_F (As := [_]) (ci := 8) M hR hS (c_getX l K hs9.orders j hjN) rfl (by decide) q285 q288 q290 q64 q292 1 md_i_J2_get ⟨rfl, rfl⟩ ⟨Nat.le_of_ble_eq_true rfl, Nat.le_of_ble_eq_true rfl⟩ (hR.recvL M hs9.orders) rfl hl.1 rfl (lv_room (Nat.le_of_ble_eq_true rfl)) dX1_copy_47 ⟨(by first | exact Nat.le_refl _ | exact Nat.zero_le _ | (dsimp only; omega)), (by first | exact Nat.le_refl _ | exact Nat.zero_le _ | (dsimp only; omega))⟩) hS (fun r47 G47 H locs hp47 hR hS => ?_)
    obtain ⟨rfl, e47⟩ := hp47
    rw [e47] at hR
    refine o_cast M hR (hs9.order j hjN) q303 dX1_copy_52 ?_
    refine o_copy M hR hS (hs9.order j hjN)  q304 hl.1 dX1_copy_55 (Nat.le_of_ble_eq_true rfl) (Nat.le_of_ble_eq_true rfl) ⟨(by first | exact Nat.le_refl _ | exact Nat.zero_le _ | (dsimp only; omega)), (by first | exact Nat.le_refl _ | exact Nat.zero_le _ | (dsimp only; omega))⟩ (Nat.le_of_ble_eq_true rfl) (fun q55 H locs hn55 hR hS => ?_)
    have hcO : oU G9 q55 (.inl (oE F E j)) lo4 = _ := (oU_n (fun z => by rw [← z, hc9.orders] at hn55; cases hn55)).trans hc9.orders
    refine g_k5i (g_F (As := [_]) (ci := 8) M hR hS (c_J2_add l K hcO (fun b hb => (hc9.obX b hb).oEU) gOb.oE (by simp; omega)) rfl (by decide) q127 q131 q133 q64 q135 1 md_i_J2_add ⟨rfl, rfl⟩ ⟨Nat.le_of_ble_eq_true rfl, Nat.le_of_ble_eq_true rfl⟩ (hR.recvL M hcO) rfl hl.1 rfl (lv_room (Nat.le_of_ble_eq_true rfl)) dX1_copy_58 ⟨(by first | exact Nat.le_refl _ | exact Nat.zero_le _ | (dsimp only; omega)), (by first | exact Nat.le_refl _ | exact Nat.zero_le _ | (dsimp only; omega))⟩) hS (fun r58 G58 H locs hp58 hR hS => ?_)
    obtain ⟨rfl, e58⟩ := hp58
    rw [e58] at hR
    refine lv_pop hx hb dX1_copy_63 rfl ?_
    refine g_inc (lv' := [(2, _), (1, _), (0, _)]) M dX1_copy_64 hl (k := 0) rfl (by decide) rfl (fun ls hl => ?_)
    refine lv_goto (tgt := 25) hx hb dX1_copy_67 (by decide) ?_
    exact ih25 (N - (j + 1)) _ _ _ _ _ _ (by omega) ⟨j + 1, va_upN x9 j q55, lv_sub hl [0, 1, 2] rfl, by omega, rfl, hc9.push hn55, (fun b hb => (sA_up hb).elim (hfr9 b) (fun z => by rw [z]; exact none_2 hk9 hn55)), keep_u (keep_u hk9 (none_2 hk9 hn55)) (hfr9 lo4 (Or.inr (Or.inr (Or.inl rfl)))), (by omega), (by omega)⟩ hR hS
