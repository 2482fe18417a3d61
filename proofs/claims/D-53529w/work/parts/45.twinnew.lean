/-! THE REFERENCE made (rows printed by tools/p45.py) -/
/-- the reference in the making: the arrays S are made, the object's fields are fs -/
def tV0 : tV := (fun _ => 0, fun _ _ => 0, fun _ => 0)
def tM (K : gK) (G : gG) (a : Nat) (G1 : gG) (A : Nat → Nat) (fs : List Value) (S : List Nat) : Prop :=
  G1 a = some (.inl (.inr (2, fs))) ∧ (∀ k ∈ S, G1 (A k) = some (tE K (fun _ => 0) tV0 k) ∧ A k ≠ a ∧ G (A k) = none) ∧ (∀ j ∈ S, ∀ k ∈ S, A j = A k → j = k) ∧ (∀ b, b ≠ a → (∀ k ∈ S, b ≠ A k) → G1 b = G b)
theorem tM.put {K : gK} {G G1 : gG} {a : Nat} {A : Nat → Nat} {fs : List Value} {S : List Nat} (h : tM K G a G1 A fs S) (fs9 : List Value) : tM K G a (oU G1 a (.inl (.inr (2, fs9)))) A fs9 S :=
  ⟨oU_s, fun k hk => ⟨(oU_n (h.2.1 k hk).2.1).trans (h.2.1 k hk).1, (h.2.1 k hk).2⟩, h.2.2.1, fun b b1 b2 => (oU_n b1).trans (h.2.2.2 b b1 b2)⟩
theorem tM.new {K : gK} {G G1 : gG} {a : Nat} {A : Nat → Nat} {fs : List Value} {S : List Nat} (h : tM K G a G1 A fs S) (k : Nat) (hk : ∀ j ∈ S, j ≠ k) {q : Nat} (hq : G1 q = none) : tM K G a (oU G1 q (tE K (fun _ => 0) tV0 k)) (va_upN A k q) fs (k :: S) := by
  obtain ⟨h1, h2, h3, h4⟩ := h
  have ha : q ≠ a := fun z => by rw [z, h1] at hq; cases hq
  have hA : ∀ j ∈ S, A j ≠ q := fun j hj z => by rw [← z, (h2 j hj).1] at hq; cases hq
  have hg : G q = none := by rw [← h4 q ha (fun j hj z => hA j hj z.symm)]; exact hq
  have hs : va_upN A k q k = q := by simp [va_upN]
  have ho : ∀ j ∈ S, va_upN A k q j = A j := fun j hj => by simp [va_upN, hk j hj]
  refine ⟨(oU_n (Ne.symm ha)).trans h1, ?_, ?_, ?_⟩
  · intro j hj
    rcases List.mem_cons.mp hj with e | e
    · rw [e, hs]; exact ⟨oU_s, ha, hg⟩
    · rw [ho j e]; exact ⟨(oU_n (hA j e)).trans (h2 j e).1, (h2 j e).2⟩
  · intro i hi j hj e
    rcases List.mem_cons.mp hi with e1 | e1 <;> rcases List.mem_cons.mp hj with e2 | e2
    · rw [e1, e2]
    · rw [e1, hs, ho j e2] at e; exact absurd e.symm (hA j e2)
    · rw [e2, hs, ho i e1] at e; exact absurd e (hA i e1)
    · rw [ho i e1, ho j e2] at e; exact h3 i e1 j e2 e
  · intro b b1 b2
    have hb : b ≠ q := fun z => b2 k (List.mem_cons_self ..) (z.trans hs.symm)
    rw [oU_n hb]
    exact h4 b b1 (fun j hj => by have := b2 j (List.mem_cons_of_mem _ hj); rw [ho j hj] at this; exact this)
theorem tE_A (K : gK) (A B : Nat → Nat) (V : tV) (k : Nat) (hk : k ≠ 0) : tE K A V k = tE K B V k := by
  unfold tE
  split <;> first | exact absurd rfl hk | rfl
/-- the reference is made -/
theorem tM.made {K : gK} {G G1 : gG} {a : Nat} {A : Nat → Nat} {fs : List Value} {S : List Nat} (h : tM K G a G1 A fs S) (hS : tIx = 0 :: S.reverse) (h0 : ∀ j ∈ S, j ≠ 0) {B : Nat → Nat} (hB : B = va_upN A 0 a) (hf : fs = tF B tV0.1) : tInj B ∧ B 0 = a ∧ (∀ k ∈ tIx, k ≠ 0 → G (B k) = none) ∧ G1 = tG K G B tV0 := by
  subst hB
  obtain ⟨h1, h2, h3, h4⟩ := h
  have hs : va_upN A 0 a 0 = a := by simp [va_upN]
  have ho : ∀ j ∈ S, va_upN A 0 a j = A j := fun j hj => by simp [va_upN, h0 j hj]
  have hin : ∀ j ∈ tIx, j = 0 ∨ j ∈ S := fun j hj => by rw [hS] at hj; rcases List.mem_cons.mp hj with e | e; exact Or.inl e; exact Or.inr (List.mem_reverse.mp e)
  have hi : tInj (va_upN A 0 a) := by
    intro i hi j hj e
    rcases hin i hi with e1 | e1 <;> rcases hin j hj with e2 | e2
    · rw [e1, e2]
    · rw [e1, hs, ho j e2] at e; exact absurd e.symm (h2 j e2).2.1
    · rw [e2, hs, ho i e1] at e; exact absurd e (h2 i e1).2.1
    · rw [ho i e1, ho j e2] at e; exact h3 i e1 j e2 e
  refine ⟨hi, hs, fun k hk hk0 => ?_, ?_⟩
  · rcases hin k hk with e | e
    · exact absurd e hk0
    · rw [ho k e]; exact (h2 k e).2.2
  · funext b
    by_cases hb : ∃ k ∈ tIx, b = va_upN A 0 a k
    · obtain ⟨k, hk, e⟩ := hb
      rw [e, tG_k hi hk]
      rcases hin k hk with e1 | e1
      · rw [e1, hs, h1, hf]; rfl
      · rw [ho k e1, (h2 k e1).1]; exact congrArg some (tE_A K _ _ tV0 k (h0 k e1))
    · have hb2 : ∀ k ∈ tIx, b ≠ va_upN A 0 a k := fun k hk e => hb ⟨k, hk, e⟩
      rw [tG_off hb2]
      exact h4 b (fun z => hb2 0 (by decide) (z.trans hs.symm)) (fun k hk z => hb2 k (by rw [hS]; exact List.mem_cons_of_mem _ (List.mem_reverse.mpr hk)) (z.trans (ho k hk).symm))
theorem md_X2_init : gMd yX2_init 0 := by
  unfold gMd
  decide +kernel
set_option maxHeartbeats 4000000 in
set_option maxRecDepth 100000 in
theorem c_X2_init (l : Launch) (K : gK) {G : gG} {a : Nat} (hf : G a = none) : Met l yX2_init (ws_ yX2_init cX2_init 1 (Option.none : Option Jvm.ClassFile.FieldType)) (gRm 1 9 2400 60) (gPre K [.ref a] (oU G a (.inl (.inr (2, [.int 0, .null, .null, .null, .int 0, .null, .int 0, .null, .int 0, .null, .int 0, .int 0, .int 0, .null, .null, .null]))))) (gQv K (fun G1 => ∃ A, tInj A ∧ A 0 = a ∧ (∀ k ∈ tIx, k ≠ 0 → G (A k) = none) ∧ G1 = tG K G A tV0)) 9 2400 (gA K) := by
  refine g_met (by decide) (Nat.le_of_ble_eq_true rfl) ?_
  intro p e s m below meth c M hr hlk hnm hR ls hl
  have M : gM K p s m _ c cX2_init 1 RX2 := M
  have hx := M.hx
  have hb := M.hb
  have hS : va_S (gA K) s.heap s.heap [] := va_S.rf
  have hl : lv_has ls 1 [(0, .ref a)] := hl
  have hob : oU G a (.inl (.inr (2, [.int 0, .null, .null, .null, .int 0, .null, .int 0, .null, .int 0, .null, .int 0, .int 0, .int 0, .null, .null, .null]))) a = some (.inl (.inr (2, [.int 0, .null, .null, .null, .int 0, .null, .int 0, .null, .int 0, .null, .int 0, .int 0, .int 0, .null, .null, .null]))) := oU_s
  have hm : tM K G a (oU G a (.inl (.inr (2, [.int 0, .null, .null, .null, .int 0, .null, .int 0, .null, .int 0, .null, .int 0, .int 0, .int 0, .null, .null, .null])))) (fun _ => a) [.int 0, .null, .null, .null, .int 0, .null, .int 0, .null, .int 0, .null, .int 0, .int 0, .int 0, .null, .null, .null] [] := ⟨oU_s, (fun k hk => absurd hk List.not_mem_nil), (fun j hj => absurd hj List.not_mem_nil), fun b b1 _ => oU_n b1⟩
  refine lv_aload_n hx hb dX2_init_0 rfl (lv_at hl 0 rfl) ?_
  refine g_obj M hl.1 q1038 q91 q92 dX2_init_1 (Nat.le_of_ble_eq_true rfl) (Nat.le_of_ble_eq_true rfl) ?_
  refine lv_aload_n hx hb dX2_init_4 rfl (lv_at hl 0 rfl) ?_
  refine lv_sipush (v := (292 : Int32)) hx hb dX2_init_5 (by decide) ?_
  refine g_newa M hR hS (ty := .int) rfl 0 rfl (fun C h => by cases h) q125 292 (a0 := (292, .inl (fun _ => 0))) (fun cB => rfl) rfl (by decide) (by decide) (by first | exact Nat.le_refl _ | exact Nat.zero_le _ | (dsimp only; omega)) (by first | exact Nat.le_refl _ | exact Nat.zero_le _ | (dsimp only; omega)) dX2_init_8 (fun q8 H hn8 hR hS => ?_)
  obtain ⟨G8, hR, hm⟩ : ∃ G1 : gG, gR K G1 H ∧ tM K G a G1 (va_upN (fun _ => a) 1 q8) [.int 0, .null, .null, .null, .int 0, .null, .int 0, .null, .int 0, .null, .int 0, .int 0, .int 0, .null, .null, .null] [1] := ⟨_, hR, hm.new 1 (by decide) hn8⟩
  have hob : G8 a = some (.inl (.inr (2, [.int 0, .null, .null, .null, .int 0, .null, .int 0, .null, .int 0, .null, .int 0, .int 0, .int 0, .null, .null, .null]))) := hm.1
  refine g_putF (C := RX2) (T := TX2) (N := 16) M hR hS hob rfl in_X2 tyX2 tyX2_ok nmX2 1 (by decide) q1040 (fun x h => h) rfl hnm rfl rfl rfl (Nat.le_of_ble_eq_true rfl) dX2_init_10 (fun H locs hR hS => ?_)
  obtain ⟨G8b, hR, hm⟩ : ∃ G1 : gG, gR K G1 H ∧ tM K G a G1 (va_upN (fun _ => a) 1 q8) [.int 0, .ref q8, .null, .null, .int 0, .null, .int 0, .null, .int 0, .null, .int 0, .int 0, .int 0, .null, .null, .null] [1] := ⟨_, hR, hm.put [.int 0, .ref q8, .null, .null, .int 0, .null, .int 0, .null, .int 0, .null, .int 0, .int 0, .int 0, .null, .null, .null]⟩
  have hob : G8b a = some (.inl (.inr (2, [.int 0, .ref q8, .null, .null, .int 0, .null, .int 0, .null, .int 0, .null, .int 0, .int 0, .int 0, .null, .null, .null]))) := hm.1
  refine lv_aload_n hx hb dX2_init_13 rfl (lv_at hl 0 rfl) ?_
  refine lv_sipush (v := (292 : Int32)) hx hb dX2_init_14 (by decide) ?_
  refine g_newa M hR hS (ty := .int) rfl 0 rfl (fun C h => by cases h) q125 292 (a0 := (292, .inl (fun _ => 0))) (fun cB => rfl) rfl (by decide) (by decide) (by first | exact Nat.le_refl _ | exact Nat.zero_le _ | (dsimp only; omega)) (by first | exact Nat.le_refl _ | exact Nat.zero_le _ | (dsimp only; omega)) dX2_init_17 (fun q17 H hn17 hR hS => ?_)
  obtain ⟨G17, hR, hm⟩ : ∃ G1 : gG, gR K G1 H ∧ tM K G a G1 (va_upN (va_upN (fun _ => a) 1 q8) 2 q17) [.int 0, .ref q8, .null, .null, .int 0, .null, .int 0, .null, .int 0, .null, .int 0, .int 0, .int 0, .null, .null, .null] [2, 1] := ⟨_, hR, hm.new 2 (by decide) hn17⟩
  have hob : G17 a = some (.inl (.inr (2, [.int 0, .ref q8, .null, .null, .int 0, .null, .int 0, .null, .int 0, .null, .int 0, .int 0, .int 0, .null, .null, .null]))) := hm.1
  refine g_putF (C := RX2) (T := TX2) (N := 16) M hR hS hob rfl in_X2 tyX2 tyX2_ok nmX2 2 (by decide) q1041 (fun x h => h) rfl hnm rfl rfl rfl (Nat.le_of_ble_eq_true rfl) dX2_init_19 (fun H locs hR hS => ?_)
  obtain ⟨G17b, hR, hm⟩ : ∃ G1 : gG, gR K G1 H ∧ tM K G a G1 (va_upN (va_upN (fun _ => a) 1 q8) 2 q17) [.int 0, .ref q8, .ref q17, .null, .int 0, .null, .int 0, .null, .int 0, .null, .int 0, .int 0, .int 0, .null, .null, .null] [2, 1] := ⟨_, hR, hm.put [.int 0, .ref q8, .ref q17, .null, .int 0, .null, .int 0, .null, .int 0, .null, .int 0, .int 0, .int 0, .null, .null, .null]⟩
  have hob : G17b a = some (.inl (.inr (2, [.int 0, .ref q8, .ref q17, .null, .int 0, .null, .int 0, .null, .int 0, .null, .int 0, .int 0, .int 0, .null, .null, .null]))) := hm.1
  refine lv_aload_n hx hb dX2_init_22 rfl (lv_at hl 0 rfl) ?_
  refine lv_sipush (v := (292 : Int32)) hx hb dX2_init_23 (by decide) ?_
  refine g_newa M hR hS (ty := .int) rfl 0 rfl (fun C h => by cases h) q125 292 (a0 := (292, .inl (fun _ => 0))) (fun cB => rfl) rfl (by decide) (by decide) (by first | exact Nat.le_refl _ | exact Nat.zero_le _ | (dsimp only; omega)) (by first | exact Nat.le_refl _ | exact Nat.zero_le _ | (dsimp only; omega)) dX2_init_26 (fun q26 H hn26 hR hS => ?_)
  obtain ⟨G26, hR, hm⟩ : ∃ G1 : gG, gR K G1 H ∧ tM K G a G1 (va_upN (va_upN (va_upN (fun _ => a) 1 q8) 2 q17) 3 q26) [.int 0, .ref q8, .ref q17, .null, .int 0, .null, .int 0, .null, .int 0, .null, .int 0, .int 0, .int 0, .null, .null, .null] [3, 2, 1] := ⟨_, hR, hm.new 3 (by decide) hn26⟩
  have hob : G26 a = some (.inl (.inr (2, [.int 0, .ref q8, .ref q17, .null, .int 0, .null, .int 0, .null, .int 0, .null, .int 0, .int 0, .int 0, .null, .null, .null]))) := hm.1
  refine g_putF (C := RX2) (T := TX2) (N := 16) M hR hS hob rfl in_X2 tyX2 tyX2_ok nmX2 3 (by decide) q1042 (fun x h => h) rfl hnm rfl rfl rfl (Nat.le_of_ble_eq_true rfl) dX2_init_28 (fun H locs hR hS => ?_)
  obtain ⟨G26b, hR, hm⟩ : ∃ G1 : gG, gR K G1 H ∧ tM K G a G1 (va_upN (va_upN (va_upN (fun _ => a) 1 q8) 2 q17) 3 q26) [.int 0, .ref q8, .ref q17, .ref q26, .int 0, .null, .int 0, .null, .int 0, .null, .int 0, .int 0, .int 0, .null, .null, .null] [3, 2, 1] := ⟨_, hR, hm.put [.int 0, .ref q8, .ref q17, .ref q26, .int 0, .null, .int 0, .null, .int 0, .null, .int 0, .int 0, .int 0, .null, .null, .null]⟩
  have hob : G26b a = some (.inl (.inr (2, [.int 0, .ref q8, .ref q17, .ref q26, .int 0, .null, .int 0, .null, .int 0, .null, .int 0, .int 0, .int 0, .null, .null, .null]))) := hm.1
  refine lv_aload_n hx hb dX2_init_31 rfl (lv_at hl 0 rfl) ?_
  refine lv_sipush (v := (1168 : Int32)) hx hb dX2_init_32 (by decide) ?_
  refine g_newa M hR hS (ty := .int) rfl 0 rfl (fun C h => by cases h) q125 1168 (a0 := (1168, .inl (fun _ => 0))) (fun cB => rfl) rfl (by decide) (by decide) (by first | exact Nat.le_refl _ | exact Nat.zero_le _ | (dsimp only; omega)) (by first | exact Nat.le_refl _ | exact Nat.zero_le _ | (dsimp only; omega)) dX2_init_35 (fun q35 H hn35 hR hS => ?_)
  obtain ⟨G35, hR, hm⟩ : ∃ G1 : gG, gR K G1 H ∧ tM K G a G1 (va_upN (va_upN (va_upN (va_upN (fun _ => a) 1 q8) 2 q17) 3 q26) 5 q35) [.int 0, .ref q8, .ref q17, .ref q26, .int 0, .null, .int 0, .null, .int 0, .null, .int 0, .int 0, .int 0, .null, .null, .null] [5, 3, 2, 1] := ⟨_, hR, hm.new 5 (by decide) hn35⟩
  have hob : G35 a = some (.inl (.inr (2, [.int 0, .ref q8, .ref q17, .ref q26, .int 0, .null, .int 0, .null, .int 0, .null, .int 0, .int 0, .int 0, .null, .null, .null]))) := hm.1
  refine g_putF (C := RX2) (T := TX2) (N := 16) M hR hS hob rfl in_X2 tyX2 tyX2_ok nmX2 5 (by decide) q1044 (fun x h => h) rfl hnm rfl rfl rfl (Nat.le_of_ble_eq_true rfl) dX2_init_37 (fun H locs hR hS => ?_)
  obtain ⟨G35b, hR, hm⟩ : ∃ G1 : gG, gR K G1 H ∧ tM K G a G1 (va_upN (va_upN (va_upN (va_upN (fun _ => a) 1 q8) 2 q17) 3 q26) 5 q35) [.int 0, .ref q8, .ref q17, .ref q26, .int 0, .ref q35, .int 0, .null, .int 0, .null, .int 0, .int 0, .int 0, .null, .null, .null] [5, 3, 2, 1] := ⟨_, hR, hm.put [.int 0, .ref q8, .ref q17, .ref q26, .int 0, .ref q35, .int 0, .null, .int 0, .null, .int 0, .int 0, .int 0, .null, .null, .null]⟩
  have hob : G35b a = some (.inl (.inr (2, [.int 0, .ref q8, .ref q17, .ref q26, .int 0, .ref q35, .int 0, .null, .int 0, .null, .int 0, .int 0, .int 0, .null, .null, .null]))) := hm.1
  refine lv_aload_n hx hb dX2_init_40 rfl (lv_at hl 0 rfl) ?_
  refine lv_bipush (v := (60 : Int32)) hx hb dX2_init_41 (by decide) ?_
  refine g_newa M hR hS (ty := .int) rfl 0 rfl (fun C h => by cases h) q125 60 (a0 := (60, .inl (fun _ => 0))) (fun cB => rfl) rfl (by decide) (by decide) (by first | exact Nat.le_refl _ | exact Nat.zero_le _ | (dsimp only; omega)) (by first | exact Nat.le_refl _ | exact Nat.zero_le _ | (dsimp only; omega)) dX2_init_43 (fun q43 H hn43 hR hS => ?_)
  obtain ⟨G43, hR, hm⟩ : ∃ G1 : gG, gR K G1 H ∧ tM K G a G1 (va_upN (va_upN (va_upN (va_upN (va_upN (fun _ => a) 1 q8) 2 q17) 3 q26) 5 q35) 7 q43) [.int 0, .ref q8, .ref q17, .ref q26, .int 0, .ref q35, .int 0, .null, .int 0, .null, .int 0, .int 0, .int 0, .null, .null, .null] [7, 5, 3, 2, 1] := ⟨_, hR, hm.new 7 (by decide) hn43⟩
  have hob : G43 a = some (.inl (.inr (2, [.int 0, .ref q8, .ref q17, .ref q26, .int 0, .ref q35, .int 0, .null, .int 0, .null, .int 0, .int 0, .int 0, .null, .null, .null]))) := hm.1
  refine g_putF (C := RX2) (T := TX2) (N := 16) M hR hS hob rfl in_X2 tyX2 tyX2_ok nmX2 7 (by decide) q1046 (fun x h => h) rfl hnm rfl rfl rfl (Nat.le_of_ble_eq_true rfl) dX2_init_45 (fun H locs hR hS => ?_)
  obtain ⟨G43b, hR, hm⟩ : ∃ G1 : gG, gR K G1 H ∧ tM K G a G1 (va_upN (va_upN (va_upN (va_upN (va_upN (fun _ => a) 1 q8) 2 q17) 3 q26) 5 q35) 7 q43) [.int 0, .ref q8, .ref q17, .ref q26, .int 0, .ref q35, .int 0, .ref q43, .int 0, .null, .int 0, .int 0, .int 0, .null, .null, .null] [7, 5, 3, 2, 1] := ⟨_, hR, hm.put [.int 0, .ref q8, .ref q17, .ref q26, .int 0, .ref q35, .int 0, .ref q43, .int 0, .null, .int 0, .int 0, .int 0, .null, .null, .null]⟩
  have hob : G43b a = some (.inl (.inr (2, [.int 0, .ref q8, .ref q17, .ref q26, .int 0, .ref q35, .int 0, .ref q43, .int 0, .null, .int 0, .int 0, .int 0, .null, .null, .null]))) := hm.1
  refine lv_aload_n hx hb dX2_init_48 rfl (lv_at hl 0 rfl) ?_
  refine lv_bipush (v := (17 : Int32)) hx hb dX2_init_49 (by decide) ?_
  refine g_newa M hR hS (ty := .int) rfl 0 rfl (fun C h => by cases h) q125 17 (a0 := (17, .inl (fun _ => 0))) (fun cB => rfl) rfl (by decide) (by decide) (by first | exact Nat.le_refl _ | exact Nat.zero_le _ | (dsimp only; omega)) (by first | exact Nat.le_refl _ | exact Nat.zero_le _ | (dsimp only; omega)) dX2_init_51 (fun q51 H hn51 hR hS => ?_)
  obtain ⟨G51, hR, hm⟩ : ∃ G1 : gG, gR K G1 H ∧ tM K G a G1 (va_upN (va_upN (va_upN (va_upN (va_upN (va_upN (fun _ => a) 1 q8) 2 q17) 3 q26) 5 q35) 7 q43) 9 q51) [.int 0, .ref q8, .ref q17, .ref q26, .int 0, .ref q35, .int 0, .ref q43, .int 0, .null, .int 0, .int 0, .int 0, .null, .null, .null] [9, 7, 5, 3, 2, 1] := ⟨_, hR, hm.new 9 (by decide) hn51⟩
  have hob : G51 a = some (.inl (.inr (2, [.int 0, .ref q8, .ref q17, .ref q26, .int 0, .ref q35, .int 0, .ref q43, .int 0, .null, .int 0, .int 0, .int 0, .null, .null, .null]))) := hm.1
  refine g_putF (C := RX2) (T := TX2) (N := 16) M hR hS hob rfl in_X2 tyX2 tyX2_ok nmX2 9 (by decide) q1048 (fun x h => h) rfl hnm rfl rfl rfl (Nat.le_of_ble_eq_true rfl) dX2_init_53 (fun H locs hR hS => ?_)
  obtain ⟨G51b, hR, hm⟩ : ∃ G1 : gG, gR K G1 H ∧ tM K G a G1 (va_upN (va_upN (va_upN (va_upN (va_upN (va_upN (fun _ => a) 1 q8) 2 q17) 3 q26) 5 q35) 7 q43) 9 q51) [.int 0, .ref q8, .ref q17, .ref q26, .int 0, .ref q35, .int 0, .ref q43, .int 0, .ref q51, .int 0, .int 0, .int 0, .null, .null, .null] [9, 7, 5, 3, 2, 1] := ⟨_, hR, hm.put [.int 0, .ref q8, .ref q17, .ref q26, .int 0, .ref q35, .int 0, .ref q43, .int 0, .ref q51, .int 0, .int 0, .int 0, .null, .null, .null]⟩
  have hob : G51b a = some (.inl (.inr (2, [.int 0, .ref q8, .ref q17, .ref q26, .int 0, .ref q35, .int 0, .ref q43, .int 0, .ref q51, .int 0, .int 0, .int 0, .null, .null, .null]))) := hm.1
  refine lv_aload_n hx hb dX2_init_56 rfl (lv_at hl 0 rfl) ?_
  refine lv_bipush (v := (64 : Int32)) hx hb dX2_init_57 (by decide) ?_
  refine g_newa M hR hS (ty := .int) rfl 0 rfl (fun C h => by cases h) q125 64 (a0 := (64, .inl (fun _ => 0))) (fun cB => rfl) rfl (by decide) (by decide) (by first | exact Nat.le_refl _ | exact Nat.zero_le _ | (dsimp only; omega)) (by first | exact Nat.le_refl _ | exact Nat.zero_le _ | (dsimp only; omega)) dX2_init_59 (fun q59 H hn59 hR hS => ?_)
  obtain ⟨G59, hR, hm⟩ : ∃ G1 : gG, gR K G1 H ∧ tM K G a G1 (va_upN (va_upN (va_upN (va_upN (va_upN (va_upN (va_upN (fun _ => a) 1 q8) 2 q17) 3 q26) 5 q35) 7 q43) 9 q51) 13 q59) [.int 0, .ref q8, .ref q17, .ref q26, .int 0, .ref q35, .int 0, .ref q43, .int 0, .ref q51, .int 0, .int 0, .int 0, .null, .null, .null] [13, 9, 7, 5, 3, 2, 1] := ⟨_, hR, hm.new 13 (by decide) hn59⟩
  have hob : G59 a = some (.inl (.inr (2, [.int 0, .ref q8, .ref q17, .ref q26, .int 0, .ref q35, .int 0, .ref q43, .int 0, .ref q51, .int 0, .int 0, .int 0, .null, .null, .null]))) := hm.1
  refine g_putF (C := RX2) (T := TX2) (N := 16) M hR hS hob rfl in_X2 tyX2 tyX2_ok nmX2 13 (by decide) q1052 (fun x h => h) rfl hnm rfl rfl rfl (Nat.le_of_ble_eq_true rfl) dX2_init_61 (fun H locs hR hS => ?_)
  obtain ⟨G59b, hR, hm⟩ : ∃ G1 : gG, gR K G1 H ∧ tM K G a G1 (va_upN (va_upN (va_upN (va_upN (va_upN (va_upN (va_upN (fun _ => a) 1 q8) 2 q17) 3 q26) 5 q35) 7 q43) 9 q51) 13 q59) [.int 0, .ref q8, .ref q17, .ref q26, .int 0, .ref q35, .int 0, .ref q43, .int 0, .ref q51, .int 0, .int 0, .int 0, .ref q59, .null, .null] [13, 9, 7, 5, 3, 2, 1] := ⟨_, hR, hm.put [.int 0, .ref q8, .ref q17, .ref q26, .int 0, .ref q35, .int 0, .ref q43, .int 0, .ref q51, .int 0, .int 0, .int 0, .ref q59, .null, .null]⟩
  have hob : G59b a = some (.inl (.inr (2, [.int 0, .ref q8, .ref q17, .ref q26, .int 0, .ref q35, .int 0, .ref q43, .int 0, .ref q51, .int 0, .int 0, .int 0, .ref q59, .null, .null]))) := hm.1
  refine lv_aload_n hx hb dX2_init_64 rfl (lv_at hl 0 rfl) ?_
  refine lv_bipush (v := (16 : Int32)) hx hb dX2_init_65 (by decide) ?_
  refine g_newa M hR hS (ty := .boolean) rfl 1 rfl (fun C h => by cases h) q1088 16 (a0 := (16, .inl (fun _ => 0))) (fun cB => rfl) rfl (by decide) (by decide) (by first | exact Nat.le_refl _ | exact Nat.zero_le _ | (dsimp only; omega)) (by first | exact Nat.le_refl _ | exact Nat.zero_le _ | (dsimp only; omega)) dX2_init_67 (fun q67 H hn67 hR hS => ?_)
  obtain ⟨G67, hR, hm⟩ : ∃ G1 : gG, gR K G1 H ∧ tM K G a G1 (va_upN (va_upN (va_upN (va_upN (va_upN (va_upN (va_upN (va_upN (fun _ => a) 1 q8) 2 q17) 3 q26) 5 q35) 7 q43) 9 q51) 13 q59) 14 q67) [.int 0, .ref q8, .ref q17, .ref q26, .int 0, .ref q35, .int 0, .ref q43, .int 0, .ref q51, .int 0, .int 0, .int 0, .ref q59, .null, .null] [14, 13, 9, 7, 5, 3, 2, 1] := ⟨_, hR, hm.new 14 (by decide) hn67⟩
  have hob : G67 a = some (.inl (.inr (2, [.int 0, .ref q8, .ref q17, .ref q26, .int 0, .ref q35, .int 0, .ref q43, .int 0, .ref q51, .int 0, .int 0, .int 0, .ref q59, .null, .null]))) := hm.1
  refine g_putF (C := RX2) (T := TX2) (N := 16) M hR hS hob rfl in_X2 tyX2 tyX2_ok nmX2 14 (by decide) q1053 (fun x h => h) rfl hnm rfl rfl rfl (Nat.le_of_ble_eq_true rfl) dX2_init_69 (fun H locs hR hS => ?_)
  obtain ⟨G67b, hR, hm⟩ : ∃ G1 : gG, gR K G1 H ∧ tM K G a G1 (va_upN (va_upN (va_upN (va_upN (va_upN (va_upN (va_upN (va_upN (fun _ => a) 1 q8) 2 q17) 3 q26) 5 q35) 7 q43) 9 q51) 13 q59) 14 q67) [.int 0, .ref q8, .ref q17, .ref q26, .int 0, .ref q35, .int 0, .ref q43, .int 0, .ref q51, .int 0, .int 0, .int 0, .ref q59, .ref q67, .null] [14, 13, 9, 7, 5, 3, 2, 1] := ⟨_, hR, hm.put [.int 0, .ref q8, .ref q17, .ref q26, .int 0, .ref q35, .int 0, .ref q43, .int 0, .ref q51, .int 0, .int 0, .int 0, .ref q59, .ref q67, .null]⟩
  have hob : G67b a = some (.inl (.inr (2, [.int 0, .ref q8, .ref q17, .ref q26, .int 0, .ref q35, .int 0, .ref q43, .int 0, .ref q51, .int 0, .int 0, .int 0, .ref q59, .ref q67, .null]))) := hm.1
  refine lv_aload_n hx hb dX2_init_72 rfl (lv_at hl 0 rfl) ?_
  refine lv_bipush (v := (16 : Int32)) hx hb dX2_init_73 (by decide) ?_
  refine g_newa M hR hS (ty := .float) rfl 2 rfl (fun C h => by cases h) q1089 16 (a0 := (16, .inr (.inr (.inl (fun _ => 0))))) (fun cB => rfl) rfl (by decide) (by decide) (by first | exact Nat.le_refl _ | exact Nat.zero_le _ | (dsimp only; omega)) (by first | exact Nat.le_refl _ | exact Nat.zero_le _ | (dsimp only; omega)) dX2_init_75 (fun q75 H hn75 hR hS => ?_)
  obtain ⟨G75, hR, hm⟩ : ∃ G1 : gG, gR K G1 H ∧ tM K G a G1 (va_upN (va_upN (va_upN (va_upN (va_upN (va_upN (va_upN (va_upN (va_upN (fun _ => a) 1 q8) 2 q17) 3 q26) 5 q35) 7 q43) 9 q51) 13 q59) 14 q67) 15 q75) [.int 0, .ref q8, .ref q17, .ref q26, .int 0, .ref q35, .int 0, .ref q43, .int 0, .ref q51, .int 0, .int 0, .int 0, .ref q59, .ref q67, .null] [15, 14, 13, 9, 7, 5, 3, 2, 1] := ⟨_, hR, hm.new 15 (by decide) hn75⟩
  have hob : G75 a = some (.inl (.inr (2, [.int 0, .ref q8, .ref q17, .ref q26, .int 0, .ref q35, .int 0, .ref q43, .int 0, .ref q51, .int 0, .int 0, .int 0, .ref q59, .ref q67, .null]))) := hm.1
  refine g_putF (C := RX2) (T := TX2) (N := 16) M hR hS hob rfl in_X2 tyX2 tyX2_ok nmX2 15 (by decide) q1054 (fun x h => h) rfl hnm rfl rfl rfl (Nat.le_of_ble_eq_true rfl) dX2_init_77 (fun H locs hR hS => ?_)
  obtain ⟨G75b, hR, hm⟩ : ∃ G1 : gG, gR K G1 H ∧ tM K G a G1 (va_upN (va_upN (va_upN (va_upN (va_upN (va_upN (va_upN (va_upN (va_upN (fun _ => a) 1 q8) 2 q17) 3 q26) 5 q35) 7 q43) 9 q51) 13 q59) 14 q67) 15 q75) [.int 0, .ref q8, .ref q17, .ref q26, .int 0, .ref q35, .int 0, .ref q43, .int 0, .ref q51, .int 0, .int 0, .int 0, .ref q59, .ref q67, .ref q75] [15, 14, 13, 9, 7, 5, 3, 2, 1] := ⟨_, hR, hm.put [.int 0, .ref q8, .ref q17, .ref q26, .int 0, .ref q35, .int 0, .ref q43, .int 0, .ref q51, .int 0, .int 0, .int 0, .ref q59, .ref q67, .ref q75]⟩
  have hob : G75b a = some (.inl (.inr (2, [.int 0, .ref q8, .ref q17, .ref q26, .int 0, .ref q35, .int 0, .ref q43, .int 0, .ref q51, .int 0, .int 0, .int 0, .ref q59, .ref q67, .ref q75]))) := hm.1
  exact g_vret M hr hlk hR hS (by omega) (by omega) dX2_init_80 (⟨_, hm.made (by decide) (by decide) rfl rfl⟩)
