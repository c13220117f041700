theorem contains_mem {ks : List Nat} {k : Nat} (h : ks.contains k = true) : k ∈ ks := by simpa using h
theorem ok_put {h : Hp} (w : hp_ok h) {a k : Nat} {v : Value} (hv : 100 < hp_kd h a → el_ok h (hp_kd h a) v) : hp_ok (hp_put h a k v) := ⟨wf_put w.1 hv, w.2⟩
theorem ok_new {h : Hp} (w : hp_ok h) {kd ln : Nat} {f : Nat → Value} (hf : 100 < kd → ∀ k, k < ln → el_ok h kd (f k)) : hp_ok (hp_new h kd ln f) := by
  refine ⟨wf_new w.1 w.2 hf, fun y hy => ?_⟩
  by_cases hc : y = hp_top h
  · subst hc; exact Nat.lt_succ_self _
  · have k1 : hp_kd (hp_new h kd ln f) y = hp_kd h y := if_neg hc
    rw [k1] at hy
    exact Nat.lt_succ_of_lt (w.2 y hy)
theorem ok_skip {h : Hp} (w : hp_ok h) {n m : Nat} : hp_ok (hp_skip h n m) := by
  refine ⟨wf_skip w.1 w.2, fun y hy => ?_⟩
  have hlt : ¬ hp_top h ≤ y := fun z => hy (if_pos z)
  exact Nat.lt_of_lt_of_le (Nat.lt_of_not_le hlt) (Nat.le_add_right _ _)
theorem ok_mul {h : Hp} (w : hp_ok h) {k1 k2 n1 n2 : Nat} (hk : k1 = kII ∧ k2 = kI ∨ k1 = kZZ ∧ k2 = kZ) : hp_ok (hp_mul h k1 k2 n1 n2 (.int 0)) := by
  have hkd : ∀ y, hp_kd (hp_mul h k1 k2 n1 n2 (.int 0)) y = if y = hp_top h then k1 else if hp_top h < y ∧ y ≤ hp_top h + n1 then k2 else hp_kd h y := fun _ => rfl
  have hln : ∀ y, hp_ln (hp_mul h k1 k2 n1 n2 (.int 0)) y = if y = hp_top h then n1 else if hp_top h < y ∧ y ≤ hp_top h + n1 then n2 else hp_ln h y := fun _ => rfl
  have hat : ∀ y j, hp_at (hp_mul h k1 k2 n1 n2 (.int 0)) y j = if y = hp_top h then .ref (hp_top h + 1 + j) else if hp_top h < y ∧ y ≤ hp_top h + n1 then .int 0 else hp_at h y j := fun _ _ => rfl
  have hmono : ∀ y, hp_kd h y ≠ 0 → hp_kd (hp_mul h k1 k2 n1 n2 (.int 0)) y = hp_kd h y := fun y hy => by
    have := w.2 y hy
    rw [hkd, if_neg (by omega), if_neg (by omega)]
  refine ⟨fun a k ha hk' => ?_, fun y hy => ?_⟩
  · rw [hkd] at ha ⊢
    rw [hln] at hk'
    rw [hat]
    by_cases h1 : a = hp_top h
    · rw [if_pos h1, if_pos h1]
      rcases hk with ⟨rfl, -⟩ | ⟨rfl, -⟩ <;> exact ⟨fun q => absurd q (by decide), fun q => absurd q (by decide), fun q => absurd q (by decide), fun q => absurd q (by decide)⟩
    · rw [if_neg h1] at ha hk' ⊢
      rw [if_neg h1]
      by_cases h2 : hp_top h < a ∧ a ≤ hp_top h + n1
      · rw [if_pos h2, if_pos h2]
        rcases hk with ⟨-, rfl⟩ | ⟨-, rfl⟩
        · exact ⟨fun _ => ⟨_, rfl⟩, fun q => absurd q (by decide), fun q => absurd q (by decide), fun q => absurd q (by decide)⟩
        · exact ⟨fun q => absurd q (by decide), fun _ => Or.inl rfl, fun q => absurd q (by decide), fun q => absurd q (by decide)⟩
      · rw [if_neg h2] at ha hk' ⊢
        rw [if_neg h2]
        exact el_mono hmono (w.1 a k ha hk')
  · show y < hp_top h + 1 + n1
    rw [hkd] at hy
    by_cases h1 : y = hp_top h
    · omega
    · rw [if_neg h1] at hy
      by_cases h2 : hp_top h < y ∧ y ≤ hp_top h + n1
      · omega
      · rw [if_neg h2] at hy
        have := w.2 y hy
        omega
theorem ok_cpy {h : Hp} (w : hp_ok h) {a i b j n : Nat} (hk : hp_kd h a = hp_kd h b) (h1 : i + n ≤ hp_ln h a) : hp_ok (hp_cpy h a i b j n) := ⟨wf_cpy w.1 hk h1, w.2⟩
/-- one instruction that goes on within its method -/
def st_ok (l : Launch) (D : va_G) (E : Env0) (q : MI) (pc : Nat) (lo : Lo) (st : List Value) (h : Hp) (z : Nat × Lo × List Value × Hp) : Prop :=
  hp_ok z.2.2.2 ∧ hp_top h ≤ hp_top z.2.2.2 ∧ hp_use h ≤ hp_use z.2.2.2 ∧ ∀ (d : Nat) (r : Rs × Hp), hp_top z.2.2.2 ≤ hp_top r.2 → hp_use z.2.2.2 ≤ hp_use r.2 → fr_ok l D E q d z.1 z.2.1 z.2.2.1 z.2.2.2 r → fr_ok l D E q d pc lo st h r
section STP
variable {l : Launch} {D : va_G} {E : Env0} {M : Nat → MI} {mi pc : Nat} {lo : Lo} {st : List Value} {h : Hp} {e : Ent} {z : Nat × Lo × List Value × Hp}
theorem stp_rd (G : gl_ok) (hek : ek_ok M mi pc e) (w : hp_ok h) (hopc : rn_opc e.1 e.2.2 = 8) {r0 : List Value} (hs : rn_rd E h e.1 e.2.2 st = some r0) : st_ok l D E (M mi) pc lo st h (pc + e.2.1, lo, r0, h) := by
  refine ⟨w, Nat.le_refl _, Nat.le_refl _, fun d r ht0 hu0 hfr => ?_⟩
  intro p en s m args below meth c H locs cells slots mc ms ls F hr hS hl hc hs'
  have kk := hfr p en s m args below meth c H locs cells slots mc ms ls F hr hS hl hc hs'
  obtain ⟨f1, f2, f3, f4, f5, f6, f7, f8, f9, fK, fB⟩ := F
  obtain ⟨e1, e2, e3, e4, e5⟩ := hek
  obtain ⟨i, len, ops⟩ := e
  dsimp only at e1 e2 e3 e4 e5 hs hopc kk
  unfold rn_rd at hs
  split at hs
  · next ix k ks a st' =>
    have hlen : len = 3 := by rcases e2 with z | ⟨_, _, _, _, z⟩; exact z; cases z
    subst hlen
    cases hk : ks.contains (hp_kd h a) with
    | false => rw [hk] at hs; cases hs
    | true =>
      rw [hk] at hs
      cases hs
      obtain ⟨g1, g2⟩ := e3 _ (contains_mem hk)
      exact sx_get f1 f2 f6 f7 G.1 fK.1 fK.2.1 fK.2.2.1 hr g1 g2 e1 kk
  · next i a st' =>
    have hlen : len = 1 := by rcases e2 with z | ⟨_, _, _, _, z⟩; exact z; cases z
    subst hlen
    cases hk : (Nat.beq (hp_kd h a) kI && rn_in i (hp_ln h a)) with
    | false => rw [hk] at hs; cases hs
    | true =>
      rw [hk] at hs
      cases hs
      rw [Bool.and_eq_true] at hk
      exact sx_iald f1 f2 hr (Nat.eq_of_beq_eq_true hk.1) hk.2 e1 kk
  · next i a st' =>
    have hlen : len = 1 := by rcases e2 with z | ⟨_, _, _, _, z⟩; exact z; cases z
    subst hlen
    cases hk : (Nat.beq (hp_kd h a) kZ && rn_in i (hp_ln h a)) with
    | false => rw [hk] at hs; cases hs
    | true =>
      rw [hk] at hs
      cases hs
      rw [Bool.and_eq_true] at hk
      exact sx_zald f1 f2 hr (Nat.eq_of_beq_eq_true hk.1) hk.2 e1 kk
  · next i a st' =>
    have hlen : len = 1 := by rcases e2 with z | ⟨_, _, _, _, z⟩; exact z; cases z
    subst hlen
    cases hk : (Nat.beq (hp_kd h a) kJ && rn_in i (hp_ln h a)) with
    | false => rw [hk] at hs; cases hs
    | true =>
      rw [hk] at hs
      cases hs
      rw [Bool.and_eq_true] at hk
      exact sx_lald f1 f2 hr (Nat.eq_of_beq_eq_true hk.1) hk.2 e1 kk
  · next i a st' =>
    have hlen : len = 1 := by rcases e2 with z | ⟨_, _, _, _, z⟩; exact z; cases z
    subst hlen
    cases hk : (Nat.ble kO (hp_kd h a) && rn_in i (hp_ln h a)) with
    | false => rw [hk] at hs; cases hs
    | true =>
      rw [hk] at hs
      cases hs
      rw [Bool.and_eq_true] at hk
      exact sx_aald f1 f2 hr (Nat.le_of_ble_eq_true hk.1) hk.2 e1 kk
  · next a st' =>
    have hlen : len = 1 := by rcases e2 with z | ⟨_, _, _, _, z⟩; exact z; cases z
    subst hlen
    cases hk : Nat.ble kI (hp_kd h a) with
    | false => rw [hk] at hs; cases hs
    | true =>
      rw [hk] at hs
      cases hs
      exact sx_alen f1 f2 hr (Nat.le_of_ble_eq_true hk) e1 kk
  · have hlen : len = 3 := by rcases e2 with z | ⟨_, _, _, _, z⟩; exact z; cases z
    subst hlen
    cases hs
    obtain ⟨z, g1, g2⟩ := e3
    exact sx_gets f1 f2 f6 f7 fK.2.2.2.1 hS g1 g2 e1 kk
  · have hlen : len = 2 := by rcases e2 with z | ⟨_, _, _, _, z⟩; exact z; cases z
    subst hlen
    cases hs
    obtain ⟨rfl, g2⟩ := e3
    exact sx_ldcM f1 f2 f6 f7 fK.2.2.2.2.1 g2 e1 kk
  · have hlen : len = 3 := by rcases e2 with z | ⟨_, _, _, _, z⟩; exact z; cases z
    subst hlen
    cases hs
    exact lv_castN f1 f2 e1 kk
  · next ix a st' =>
    have hlen : len = 3 := by rcases e2 with z | ⟨_, _, _, _, z⟩; exact z; cases z
    subst hlen
    cases hk : ops.contains (hp_kd h a) with
    | false => rw [hk] at hs; cases hs
    | true =>
      rw [hk] at hs
      cases hs
      obtain ⟨cn, g0, g1⟩ := e3
      obtain ⟨g1, g2, g3⟩ := g1 _ (contains_mem hk)
      exact sx_cast f1 f2 f6 f7 fK.1 fK.2.2.1 hr g1 g2 g0 g3 e1 kk
  · next ix n ks a st' =>
    have hlen : len = 3 := by rcases e2 with z | ⟨_, _, _, _, z⟩; exact z; cases z
    subst hlen
    obtain ⟨cn, g0, g1, g2⟩ := e3
    cases hk : (ks.take n).contains (hp_kd h a) with
    | true =>
      rw [hk] at hs
      cases hs
      obtain ⟨g3, g4, g5⟩ := g1 _ (contains_mem hk)
      exact sx_inst1 f1 f2 f6 f7 fK.1 hr g3 g4 g0 g5 e1 kk
    | false =>
      rw [hk] at hs
      cases hk2 : (ks.drop n).contains (hp_kd h a) with
      | false => rw [hk2] at hs; cases hs
      | true =>
        rw [hk2] at hs
        cases hs
        obtain ⟨g3, g4, g5⟩ := g2 _ (contains_mem hk2)
        exact sx_inst0 f1 f2 f6 f7 fK.1 hr g3 g4 g0 (fK.2.2.2.2.2.1 _ g5) e1 kk
  · next ix i a st' =>
    have hlen : len = 3 := by rcases e2 with z | ⟨_, _, _, _, z⟩; exact z; cases z
    subst hlen
    cases hk : (Nat.beq (hp_kd h a) kO && decide ((st'.map fun v => v.category).sum ≤ 8)) with
    | false => rw [hk] at hs; cases hs
    | true =>
      rw [hk] at hs
      cases hs
      rw [Bool.and_eq_true, decide_eq_true_eq] at hk
      obtain ⟨rfl, g2⟩ := e3
      exact sx_getC f1 f2 (hl.1.trans f3.symm) f6 f7 fK.2.2.1 fK.2.2.2.2.1 hr g2 (Nat.eq_of_beq_eq_true hk.1) (by show 1 ≤ 8 * d + 16; omega) (by show _ ≤ 1000 * d + 5000; omega) e1 kk
  · cases hs
theorem stp_wr (G : gl_ok) (hek : ek_ok M mi pc e) (w : hp_ok h) (hopc : rn_opc e.1 e.2.2 = 9) {z : List Value × Hp} (hs : rn_wr E h e.1 e.2.2 st = some z) : st_ok l D E (M mi) pc lo st h (pc + e.2.1, lo, z.1, z.2) := by
  obtain ⟨e1, e2, e3, e4, e5⟩ := hek
  obtain ⟨i, len, ops⟩ := e
  dsimp only at e1 e2 e3 e4 e5 hs hopc
  unfold rn_wr at hs
  split at hs
  · next ix k t ks v a st' =>
    have hlen : len = 3 := by rcases e2 with z | ⟨_, _, _, _, z⟩; exact z; cases z
    subst hlen
    cases hk : (Nat.ble E.1 a && ks.contains (hp_kd h a) && rn_fit t v) with
    | false => rw [hk] at hs; cases hs
    | true =>
      rw [hk] at hs
      cases hs
      simp only [Bool.and_eq_true] at hk
      have hp := e3 _ (contains_mem hk.1.2)
      refine ⟨ok_put w (fun z => absurd hp.1 (by omega)), Nat.le_refl _, Nat.le_refl _, fun d r ht0 hu0 hfr => ?_⟩
      intro p en s m args below meth c H locs cells slots mc ms ls F hr hS hl hc hs'
      have F' := F
      obtain ⟨f1, f2, f3, f4, f5, f6, f7, f8, f9, fK, fB⟩ := F
      exact sx_put f1 f2 f6 f7 G.1 fK.1 fK.2.2.1 hr hS (fun z => f8 (of_decide_eq_true z)) (Nat.le_of_ble_eq_true hk.1.1) hp hk.2 e1 (fun H1 locs1 g1 g2 => hfr p en s m args below meth c H1 locs1 cells slots mc ms ls F' g1 g2 hl hc hs')
  · next x i a st' =>
    have hlen : len = 1 := by rcases e2 with z | ⟨_, _, _, _, z⟩; exact z; cases z
    subst hlen
    cases hk : (Nat.ble E.1 a && Nat.beq (hp_kd h a) kI && rn_in i (hp_ln h a)) with
    | false => rw [hk] at hs; cases hs
    | true =>
      rw [hk] at hs
      cases hs
      simp only [Bool.and_eq_true] at hk
      have hkd := Nat.eq_of_beq_eq_true hk.1.2
      refine ⟨ok_put w (fun z => by rw [hkd]; exact ⟨fun _ => ⟨_, rfl⟩, fun q => absurd q (by decide), fun q => absurd q (by decide), fun q => absurd q (by decide)⟩), Nat.le_refl _, Nat.le_refl _, fun d r ht0 hu0 hfr => ?_⟩
      intro p en s m args below meth c H locs cells slots mc ms ls F hr hS hl hc hs'
      have F' := F
      obtain ⟨f1, f2, f3, f4, f5, f6, f7, f8, f9, fK, fB⟩ := F
      exact sx_iast f1 f2 hr hS (Nat.le_of_ble_eq_true hk.1.1) hkd hk.2 e1 (fun H1 locs1 g1 g2 => hfr p en s m args below meth c H1 locs1 cells slots mc ms ls F' g1 g2 hl hc hs')
  · next x i a st' =>
    have hlen : len = 1 := by rcases e2 with z | ⟨_, _, _, _, z⟩; exact z; cases z
    subst hlen
    cases hk : (Nat.ble E.1 a && Nat.beq (hp_kd h a) kZ && rn_in i (hp_ln h a) && (x == 0 || x == 1)) with
    | false => rw [hk] at hs; cases hs
    | true =>
      rw [hk] at hs
      cases hs
      simp only [Bool.and_eq_true, Bool.or_eq_true, beq_iff_eq] at hk
      have hkd := Nat.eq_of_beq_eq_true hk.1.1.2
      refine ⟨ok_put w (fun z => by rw [hkd]; exact ⟨fun q => absurd q (by decide), fun _ => hk.2.elim (fun y => Or.inl (by rw [y])) (fun y => Or.inr (by rw [y])), fun q => absurd q (by decide), fun q => absurd q (by decide)⟩), Nat.le_refl _, Nat.le_refl _, fun d r ht0 hu0 hfr => ?_⟩
      intro p en s m args below meth c H locs cells slots mc ms ls F hr hS hl hc hs'
      have F' := F
      obtain ⟨f1, f2, f3, f4, f5, f6, f7, f8, f9, fK, fB⟩ := F
      exact sx_zast f1 f2 hr hS (Nat.le_of_ble_eq_true hk.1.1.1) hkd hk.1.2 hk.2 e1 (fun H1 locs1 g1 g2 => hfr p en s m args below meth c H1 locs1 cells slots mc ms ls F' g1 g2 hl hc hs')
  · next x i a st' =>
    have hlen : len = 1 := by rcases e2 with z | ⟨_, _, _, _, z⟩; exact z; cases z
    subst hlen
    cases hk : (Nat.ble E.1 a && Nat.beq (hp_kd h a) kJ && rn_in i (hp_ln h a)) with
    | false => rw [hk] at hs; cases hs
    | true =>
      rw [hk] at hs
      cases hs
      simp only [Bool.and_eq_true] at hk
      have hkd := Nat.eq_of_beq_eq_true hk.1.2
      refine ⟨ok_put w (fun z => by rw [hkd]; exact ⟨fun q => absurd q (by decide), fun q => absurd q (by decide), fun _ => ⟨_, rfl⟩, fun q => absurd q (by decide)⟩), Nat.le_refl _, Nat.le_refl _, fun d r ht0 hu0 hfr => ?_⟩
      intro p en s m args below meth c H locs cells slots mc ms ls F hr hS hl hc hs'
      have F' := F
      obtain ⟨f1, f2, f3, f4, f5, f6, f7, f8, f9, fK, fB⟩ := F
      exact sx_last f1 f2 hr hS (Nat.le_of_ble_eq_true hk.1.1) hkd hk.2 e1 (fun H1 locs1 g1 g2 => hfr p en s m args below meth c H1 locs1 cells slots mc ms ls F' g1 g2 hl hc hs')
  · next i a st' =>
    have hlen : len = 1 := by rcases e2 with z | ⟨_, _, _, _, z⟩; exact z; cases z
    subst hlen
    cases hk : (Nat.ble E.1 a && Nat.beq (hp_kd h a) kO && rn_in i (hp_ln h a)) with
    | false => rw [hk] at hs; cases hs
    | true =>
      rw [hk] at hs
      cases hs
      simp only [Bool.and_eq_true] at hk
      have hkd := Nat.eq_of_beq_eq_true hk.1.2
      refine ⟨ok_put w (fun z => by rw [hkd]; exact ⟨fun q => absurd q (by decide), fun q => absurd q (by decide), fun q => absurd q (by decide), fun _ => Or.inl rfl⟩), Nat.le_refl _, Nat.le_refl _, fun d r ht0 hu0 hfr => ?_⟩
      intro p en s m args below meth c H locs cells slots mc ms ls F hr hS hl hc hs'
      have F' := F
      obtain ⟨f1, f2, f3, f4, f5, f6, f7, f8, f9, fK, fB⟩ := F
      exact sx_aastN f1 f2 hr hS (Nat.le_of_ble_eq_true hk.1.1) hkd hk.2 e1 (fun H1 locs1 g1 g2 => hfr p en s m args below meth c H1 locs1 cells slots mc ms ls F' g1 g2 hl hc hs')
  · next b i a st' =>
    have hlen : len = 1 := by rcases e2 with z | ⟨_, _, _, _, z⟩; exact z; cases z
    subst hlen
    cases hk : (Nat.ble E.1 a && Nat.ble E.1 b && rn_pair ops (hp_kd h a) (hp_kd h b) && rn_in i (hp_ln h a)) with
    | false => rw [hk] at hs; cases hs
    | true =>
      rw [hk] at hs
      cases hs
      simp only [Bool.and_eq_true] at hk
      obtain ⟨ha, hO⟩ := e3 _ _ hk.1.2
      have h4 := ha.1
      refine ⟨ok_put w (fun z => ⟨fun q => absurd h4 (by rw [q]; decide), fun q => absurd h4 (by rw [q]; decide), fun q => absurd h4 (by rw [q]; decide), fun q => Or.inr ⟨b, rfl, (hO q).1, (hO q).2⟩⟩), Nat.le_refl _, Nat.le_refl _, fun d r ht0 hu0 hfr => ?_⟩
      intro p en s m args below meth c H locs cells slots mc ms ls F hr hS hl hc hs'
      have F' := F
      obtain ⟨f1, f2, f3, f4, f5, f6, f7, f8, f9, fK, fB⟩ := F
      exact sx_aast f1 f2 fK.1 fK.2.2.1 hr hS (Nat.le_of_ble_eq_true hk.1.1.1) (Nat.le_of_ble_eq_true hk.1.1.2) ha hk.2 e1 (fun H1 locs1 g1 g2 => hfr p en s m args below meth c H1 locs1 cells slots mc ms ls F' g1 g2 hl hc hs')
  · next ix n j b i a st' =>
    have hlen : len = 3 := by rcases e2 with z | ⟨_, _, _, _, z⟩; exact z; cases z
    subst hlen
    cases hk : (Nat.ble E.1 b && Nat.beq (hp_kd h a) (hp_kd h b) && Nat.ble kI (hp_kd h b) && Nat.ble (hp_kd h b) kO && decide (¬ n < 0) && decide (¬ i < 0) && decide (¬ j < 0) && decide (i.toNatClampNeg + n.toNatClampNeg ≤ hp_ln h a) && decide (j.toNatClampNeg + n.toNatClampNeg ≤ hp_ln h b) && decide ((st'.map fun v => v.category).sum ≤ 8)) with
    | false => rw [hk] at hs; cases hs
    | true =>
      rw [hk] at hs
      cases hs
      simp only [Bool.and_eq_true, decide_eq_true_eq] at hk
      obtain ⟨⟨⟨⟨⟨⟨⟨⟨⟨k1, k2⟩, k3⟩, k4⟩, k5⟩, k6⟩, k7⟩, k8⟩, k9⟩, k10⟩ := hk
      have hkd := Nat.eq_of_beq_eq_true k2
      refine ⟨ok_cpy w hkd k8, Nat.le_refl _, Nat.le_refl _, fun d r ht0 hu0 hfr => ?_⟩
      intro p en s m args below meth c H locs cells slots mc ms ls F hr hS hl hc hs'
      have F' := F
      obtain ⟨f1, f2, f3, f4, f5, f6, f7, f8, f9, fK, fB⟩ := F
      exact sx_copy f1 f2 (hl.1.trans f3.symm) f6 f7 G.2.1 fK.1 fK.2.2.1 hr w.1 hS e3 (Nat.le_of_ble_eq_true k1) hkd (Nat.le_of_ble_eq_true k3) (Nat.le_of_ble_eq_true k4) k6 k7 k5 k8 k9 (by show 1 ≤ 8 * d + 16; omega) (by show _ ≤ 1000 * d + 5000; omega) e1 (fun H1 locs1 g1 g2 => hfr p en s m args below meth c H1 locs1 cells slots mc ms ls F' g1 g2 hl hc hs')
  · cases hs
end STP
