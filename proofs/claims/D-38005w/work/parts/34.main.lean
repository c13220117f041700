section STQ
variable {l : Launch} {D : va_G} {E : Env0} {M : Nat → MI} {mi pc : Nat} {lo : Lo} {st : List Value} {h : Hp} {e : Ent}
theorem el_def (k : Nat) (hk : k = kI ∨ k = kZ ∨ k = kJ) : el_ok h k (if k = kJ then .long 0 else .int 0) := by
  rcases hk with rfl | rfl | rfl
  · exact ⟨fun _ => ⟨_, rfl⟩, fun q => absurd q (by decide), fun q => absurd q (by decide), fun q => absurd q (by decide)⟩
  · exact ⟨fun q => absurd q (by decide), fun _ => Or.inl rfl, fun q => absurd q (by decide), fun q => absurd q (by decide)⟩
  · exact ⟨fun q => absurd q (by decide), fun q => absurd q (by decide), fun _ => ⟨_, rfl⟩, fun q => absurd q (by decide)⟩
theorem stp_al (G : gl_ok) (hek : ek_ok M mi pc e) (w : hp_ok h) {z : List Value × Hp} (hs : rn_al fdT h e.1 e.2.2 st = some z) : st_ok l D E (M mi) pc lo st h (pc + e.2.1, lo, z.1, z.2) := by
  obtain ⟨e1, e2, e3, e4, e5⟩ := hek
  obtain ⟨i, len, ops⟩ := e
  dsimp only at e1 e2 e3 e4 e5 hs
  unfold rn_al at hs
  split at hs
  · next ix ci =>
    have hlen : len = 3 := by rcases e2 with z | ⟨_, _, _, _, z⟩; exact z; cases z
    subst hlen
    cases hs
    obtain ⟨g1, q, g2, g3⟩ := e3
    refine ⟨ok_new w (fun z => by omega), Nat.le_succ _, Nat.le_add_right _ _, fun d r ht0 hu0 hfr => ?_⟩
    intro p en s m args below meth c H locs cells slots mc ms ls F hr hS hl hc hs'
    have F' := F
    obtain ⟨f1, f2, f3, f4, f5, f6, f7, f8, f9, fK, fB⟩ := F
    have t1 : hp_top h + 1 ≤ hp_top r.2 := ht0
    have t2 : hp_use h + (fdT ci).1 ≤ hp_use r.2 := hu0
    refine sx_new f1 f2 f6 f7 G.1 fK.1 hr hS fB g2 g1 g3 (by show cells + 1 ≤ mc; omega) (by show slots + (fdT ci).1 ≤ ms; omega) e1 (fun H1 y1 y2 => hfr p en s m args below meth c H1 locs (cells + 1) (slots + (fdT ci).1) mc ms ls F' y1 y2 hl ?_ ?_)
    · show cells + 1 + (hp_top r.2 - (hp_top h + 1)) ≤ mc
      omega
    · show slots + (fdT ci).1 + (hp_use r.2 - (hp_use h + (fdT ci).1)) ≤ ms
      omega
  · next t k n st' =>
    have hlen : len = 2 := by rcases e2 with z | ⟨_, _, _, _, z⟩; exact z; cases z
    subst hlen
    cases hk : (decide (¬ n < 0) && decide (n.toNatClampNeg ≤ 1000000)) with
    | false => rw [hk] at hs; cases hs
    | true =>
      rw [hk] at hs
      cases hs
      simp only [Bool.and_eq_true, decide_eq_true_eq] at hk
      have e3 : ek_na t k := e3
      have hkd : k = kI ∨ k = kZ ∨ k = kJ := by rcases e3.1 with ⟨-, q⟩ | ⟨-, q⟩ | ⟨-, q⟩; exact Or.inl q; exact Or.inr (Or.inl q); exact Or.inr (Or.inr q)
      refine ⟨ok_new w (fun _ _ _ => el_def k hkd), Nat.le_succ _, Nat.le_add_right _ _, fun d r ht0 hu0 hfr => ?_⟩
      intro p en s m args below meth c H locs cells slots mc ms ls F hr hS hl hc hs'
      have F' := F
      obtain ⟨f1, f2, f3, f4, f5, f6, f7, f8, f9, fK, fB⟩ := F
      have t1 : hp_top h + 1 ≤ hp_top r.2 := ht0
      have t2 : hp_use h + n.toNatClampNeg ≤ hp_use r.2 := hu0
      refine sx_newa f1 f2 f7 hr hS fB e3 hk.1 hk.2 (by show cells + 1 ≤ mc; omega) (by show slots + n.toNatClampNeg ≤ ms; omega) e1 (fun H1 y1 y2 => hfr p en s m args below meth c H1 locs (cells + 1) (slots + n.toNatClampNeg) mc ms ls F' y1 y2 hl ?_ ?_)
      · show cells + 1 + (hp_top r.2 - (hp_top h + 1)) ≤ mc
        omega
      · show slots + n.toNatClampNeg + (hp_use r.2 - (hp_use h + n.toNatClampNeg)) ≤ ms
        omega
  · next ix k n st' =>
    have hlen : len = 3 := by rcases e2 with z | ⟨_, _, _, _, z⟩; exact z; cases z
    subst hlen
    cases hk : (decide (¬ n < 0) && decide (n.toNatClampNeg ≤ 1000000)) with
    | false => rw [hk] at hs; cases hs
    | true =>
      rw [hk] at hs
      cases hs
      simp only [Bool.and_eq_true, decide_eq_true_eq] at hk
      have e3 : ek_aa (M mi).1.cls ix k := e3
      refine ⟨ok_new w (fun _ _ _ => ?_), Nat.le_succ _, Nat.le_add_right _ _, fun d r ht0 hu0 hfr => ?_⟩
      · rcases e3.1 with rfl | rfl | rfl <;> exact ⟨fun q => absurd q (by decide), fun q => absurd q (by decide), fun q => absurd q (by decide), fun _ => Or.inl rfl⟩
      intro p en s m args below meth c H locs cells slots mc ms ls F hr hS hl hc hs'
      have F' := F
      obtain ⟨f1, f2, f3, f4, f5, f6, f7, f8, f9, fK, fB⟩ := F
      have t1 : hp_top h + 1 ≤ hp_top r.2 := ht0
      have t2 : hp_use h + n.toNatClampNeg ≤ hp_use r.2 := hu0
      refine sx_anew f1 f2 f6 f7 fK.2.2.2.2.2.2.1 hr hS fB e3 hk.1 hk.2 (by show cells + 1 ≤ mc; omega) (by show slots + n.toNatClampNeg ≤ ms; omega) e1 (fun H1 y1 y2 => hfr p en s m args below meth c H1 locs (cells + 1) (slots + n.toNatClampNeg) mc ms ls F' y1 y2 hl ?_ ?_)
      · show cells + 1 + (hp_top r.2 - (hp_top h + 1)) ≤ mc
        omega
      · show slots + n.toNatClampNeg + (hp_use r.2 - (hp_use h + n.toNatClampNeg)) ≤ ms
        omega
  · next ix dm k1 k2 m n st' =>
    have hlen : len = 4 := by rcases e2 with z | ⟨_, _, _, _, z⟩; exact z; cases z
    subst hlen
    cases hk : (decide (¬ n < 0) && decide (¬ m < 0) && decide (n.toNatClampNeg ≤ 1000) && decide (m.toNatClampNeg ≤ 1000)) with
    | false => rw [hk] at hs; cases hs
    | true =>
      rw [hk] at hs
      cases hs
      simp only [Bool.and_eq_true, decide_eq_true_eq] at hk
      have e3 : ek_mu (M mi).1.cls ix dm k1 k2 := e3
      refine ⟨ok_mul w e3.2.1, by show hp_top h ≤ hp_top h + 1 + n.toNatClampNeg; omega, by show hp_use h ≤ hp_use h + n.toNatClampNeg + n.toNatClampNeg * m.toNatClampNeg; omega, fun d r ht0 hu0 hfr => ?_⟩
      intro p en s m0 args below meth c H locs cells slots mc ms ls F hr hS hl hc hs'
      have F' := F
      obtain ⟨f1, f2, f3, f4, f5, f6, f7, f8, f9, fK, fB⟩ := F
      have t1 : hp_top h + 1 + n.toNatClampNeg ≤ hp_top r.2 := ht0
      have t2 : hp_use h + n.toNatClampNeg + n.toNatClampNeg * m.toNatClampNeg ≤ hp_use r.2 := hu0
      refine sx_mul f1 f2 f6 f7 fK.2.2.2.2.2.2.2.2.2.1 hr hS fB e3 hk.1.1.1 hk.1.2 hk.1.1.2 hk.2 (by show cells + (1 + n.toNatClampNeg) ≤ mc; omega) (by show slots + (n.toNatClampNeg + n.toNatClampNeg * m.toNatClampNeg) ≤ ms; omega) e1 (fun H1 locs1 y1 y2 => hfr p en s m0 args below meth c H1 locs1 (cells + (1 + n.toNatClampNeg)) (slots + (n.toNatClampNeg + n.toNatClampNeg * m.toNatClampNeg)) mc ms ls F' y1 y2 hl ?_ ?_)
      · show cells + (1 + n.toNatClampNeg) + (hp_top r.2 - (hp_top h + 1 + n.toNatClampNeg)) ≤ mc
        omega
      · show slots + (n.toNatClampNeg + n.toNatClampNeg * m.toNatClampNeg) + (hp_use r.2 - (hp_use h + n.toNatClampNeg + n.toNatClampNeg * m.toNatClampNeg)) ≤ ms
        omega
  · exact e3.elim
  · cases hs
theorem stp_len (hek : ek_ok M mi pc e) (h : ∀ a b c d, e.1 ≠ .tableswitch a b c d) : e.2.1 = rn_len e.1 := by
  rcases hek.2.1 with z | ⟨a, b, c, d, z⟩
  · exact z
  · exact absurd z (h a b c d)
/-- every instruction that goes on within its method -/
theorem stp_all (G : gl_ok) (hek : ek_ok M mi pc e) (w : hp_ok h) {z : Nat × Lo × List Value × Hp} (hs : rn_step E fdT e pc lo st h = some (.inl z)) : st_ok l D E (M mi) pc lo st h z := by
  unfold rn_step at hs
  split at hs
  · next ho =>
    obtain ⟨v, hv, e0⟩ := Option.map_eq_some_iff.mp hs
    cases e0
    have hlen := stp_len hek (fun a b c d q => by rw [q] at ho; cases ho)
    refine ⟨w, Nat.le_refl _, Nat.le_refl _, fun d r ht0 hu0 hfr => ?_⟩
    intro p en s m args below meth c H locs cells slots mc ms ls F hr hS hl hc hs'
    have kk := hfr p en s m args below meth c H locs cells slots mc ms ls F hr hS hl hc hs'
    obtain ⟨f1, f2, f3, f4, f5, f6, f7, f8, f9, fK, fB⟩ := F
    obtain ⟨e1, e2, e3, e4, e5⟩ := hek
    exact sx_con f1 f2 f6 e1 hlen (fun ix n h1 h2 => by rw [h1, h2] at e3; exact f7 _ e3) (fun ix n h1 h2 => by rw [h1, h2] at e3; exact f7 _ e3) hv kk
  · next ho =>
    split at hs
    · next v rr =>
      obtain ⟨x, hv, e0⟩ := Option.map_eq_some_iff.mp hs
      cases e0
      have hlen := stp_len hek (fun a b c d q => by rw [q] at ho; cases ho)
      refine ⟨w, Nat.le_refl _, Nat.le_refl _, fun d r ht0 hu0 hfr => ?_⟩
      intro p en s m args below meth c H locs cells slots mc ms ls F hr hS hl hc hs'
      have kk := hfr p en s m args below meth c H locs cells slots mc ms ls F hr hS hl hc hs'
      obtain ⟨f1, f2, f3, f4, f5, f6, f7, f8, f9, fK, fB⟩ := F
      exact sx_un f1 f2 hek.1 hlen hv kk
    · cases hs
  · next ho =>
    split at hs
    · next y x rr =>
      obtain ⟨v, hv, e0⟩ := Option.map_eq_some_iff.mp hs
      cases e0
      have hlen := stp_len hek (fun a b c d q => by rw [q] at ho; cases ho)
      refine ⟨w, Nat.le_refl _, Nat.le_refl _, fun d r ht0 hu0 hfr => ?_⟩
      intro p en s m args below meth c H locs cells slots mc ms ls F hr hS hl hc hs'
      have kk := hfr p en s m args below meth c H locs cells slots mc ms ls F hr hS hl hc hs'
      obtain ⟨f1, f2, f3, f4, f5, f6, f7, f8, f9, fK, fB⟩ := F
      exact sx_bin f1 f2 hek.1 hlen hv kk
    · cases hs
  · next ho =>
    obtain ⟨v, hv, e0⟩ := Option.map_eq_some_iff.mp hs
    cases e0
    have hlen := stp_len hek (fun a b c d q => by rw [q] at ho; cases ho)
    refine ⟨w, Nat.le_refl _, Nat.le_refl _, fun d r ht0 hu0 hfr => ?_⟩
    intro p en s m args below meth c H locs cells slots mc ms ls F hr hS hl hc hs'
    have kk := hfr p en s m args below meth c H locs cells slots mc ms ls F hr hS hl hc hs'
    obtain ⟨f1, f2, f3, f4, f5, f6, f7, f8, f9, fK, fB⟩ := F
    obtain ⟨e1, e2, e3, e4, e5⟩ := hek
    refine sx_stk (ops := e.2.2) f1 f2 e1 hlen f6 (fun ix h1 => ?_) (hl.1.trans f3.symm) (by show 1 ≤ 8 * d + 16; omega) (by show 20 ≤ 1000 * d + 5000; omega) hv kk
    have hops : e.2.2 = [] := by
      rw [h1] at ho
      cases ho2 : e.2.2 with
      | nil => rfl
      | cons a b => rw [ho2] at ho; cases ho
    rw [h1, hops] at e3
    exact ⟨f7 _ e3, f7 _ G.2.2.1, f7 _ G.2.2.2⟩
  · next ho =>
    split at hs
    · next i t hi =>
      split at hs
      · next v hg =>
        cases ht : Nat.beq (rn_tag v) t with
        | false => rw [ht] at hs; cases hs
        | true =>
          rw [ht] at hs
          cases hs
          have hlen := stp_len hek (fun a b c d q => by rw [q] at ho; cases ho)
          refine ⟨w, Nat.le_refl _, Nat.le_refl _, fun d r ht0 hu0 hfr => ?_⟩
          intro p en s m args below meth c H locs cells slots mc ms ls F hr hS hl hc hs'
          have kk := hfr p en s m args below meth c H locs cells slots mc ms ls F hr hS hl hc hs'
          obtain ⟨f1, f2, f3, f4, f5, f6, f7, f8, f9, fK, fB⟩ := F
          exact sx_ld f1 f2 hek.1 hlen hl hi hg ht kk
      · cases hs
    · cases hs
  · next ho =>
    split at hs
    · next i t v rr hi =>
      cases ht : Nat.beq (rn_tag v) t with
      | false => rw [ht] at hs; cases hs
      | true =>
        rw [ht] at hs
        cases hs
        have hlen := stp_len hek (fun a b c d q => by rw [q] at ho; cases ho)
        refine ⟨w, Nat.le_refl _, Nat.le_refl _, fun d r ht0 hu0 hfr => ?_⟩
        intro p en s m args below meth c H locs cells slots mc ms ls F hr hS hl hc hs'
        have F' := F
        obtain ⟨f1, f2, f3, f4, f5, f6, f7, f8, f9, fK, fB⟩ := F
        obtain ⟨e1, e2, e3, e4, e5⟩ := hek
        have hj : i < (M mi).2.2.1 ∧ (2 ≤ t → i + 1 < (M mi).2.2.1) := by
          obtain ⟨i0, len, ops⟩ := e
          dsimp only at e3 hi
          unfold rn_st at hi
          split at hi <;> cases hi <;> first
            | exact ⟨e3, fun q => absurd q (by decide)⟩
            | exact ⟨Nat.lt_of_succ_lt e3, fun _ => e3⟩
        exact sx_st f1 f2 e1 hlen hl hi hj.1 hj.2 ht (fun ls' hl' => hfr p en s m args below meth c H locs cells slots mc ms ls' F' hr hS hl' hc hs')
    · cases hs
  · next ho =>
    split at hs
    · next j n he =>
      split at hs
      · next x hg =>
        cases hs
        refine ⟨w, Nat.le_refl _, Nat.le_refl _, fun d r ht0 hu0 hfr => ?_⟩
        intro p en s m args below meth c H locs cells slots mc ms ls F hr hS hl hc hs'
        have F' := F
        obtain ⟨f1, f2, f3, f4, f5, f6, f7, f8, f9, fK, fB⟩ := F
        have hlen := stp_len hek (fun a b c d q => by rw [q] at ho; cases ho)
        obtain ⟨e1, e2, e3, e4, e5⟩ := hek
        rw [he] at e1 e3 hlen
        exact sx_inc f1 f2 e1 hlen hl e3 hg (fun ls' hl' => hfr p en s m args below meth c H locs cells slots mc ms ls' F' hr hS hl' hc hs')
      · cases hs
    · cases hs
  · next ho =>
    obtain ⟨v, hv, e0⟩ := Option.map_eq_some_iff.mp hs
    cases e0
    refine ⟨w, Nat.le_refl _, Nat.le_refl _, fun d r ht0 hu0 hfr => ?_⟩
    intro p en s m args below meth c H locs cells slots mc ms ls F hr hS hl hc hs'
    have kk := hfr p en s m args below meth c H locs cells slots mc ms ls F hr hS hl hc hs'
    obtain ⟨f1, f2, f3, f4, f5, f6, f7, f8, f9, fK, fB⟩ := F
    exact sx_br f1 f2 hek.1 hek.2.1 hek.2.2.2.1 hv kk
  · next ho =>
    obtain ⟨v, hv, e0⟩ := Option.map_eq_some_iff.mp hs
    cases e0
    exact stp_rd G hek w ho hv
  · next ho =>
    obtain ⟨v, hv, e0⟩ := Option.map_eq_some_iff.mp hs
    cases e0
    exact stp_wr G hek w ho hv
  · next ho =>
    obtain ⟨v, hv, e0⟩ := Option.map_eq_some_iff.mp hs
    cases e0
    exact stp_al G hek w hv
  · obtain ⟨v, hv, e0⟩ := Option.map_eq_some_iff.mp hs
    cases e0
  · obtain ⟨v, hv, e0⟩ := Option.map_eq_some_iff.mp hs
    cases e0
  · split at hs
    · next a x he =>
      cases hk : decide ((st.map fun v => v.category).sum ≤ 8) with
      | false => rw [hk] at hs; cases hs
      | true => rw [hk] at hs; cases hs
    · cases hs
  · cases hs
end STQ
