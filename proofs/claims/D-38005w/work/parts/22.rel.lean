/-! THE TIE between the abstract heap and the machine's -/
def en_nm (kd : Nat) : String := if kd = 50 then "QuorumLog$Role" else if kd = 51 then "QuorumLog$Deed$1" else if kd = 52 then "QuorumLog$Deed$2" else "QuorumLog$Deed$3"
def ar_ty (kd : Nat) : FieldType := if kd = 101 then .int else if kd = 102 then .boolean else if kd = 103 then .long else if kd = 104 then .object "java/lang/Object" else if kd = 105 then .object "QuorumLog$Server" else if kd = 106 then .object "QuorumLog$Client" else if kd = 107 then .array .int else .array .boolean
def ar_nm (kd : Nat) : String := if kd = 101 then "[I" else if kd = 102 then "[Z" else if kd = 103 then "[J" else if kd = 104 then "[Ljava/lang/Object;" else if kd = 105 then "[LQuorumLog$Server;" else if kd = 106 then "[LQuorumLog$Client;" else if kd = 107 then "[[I" else "[[Z"
/-- the name of the component of an array of references -/
def ar_co (kd : Nat) : String := if kd = 104 then "java/lang/Object" else if kd = 105 then "QuorumLog$Server" else if kd = 106 then "QuorumLog$Client" else if kd = 107 then "[I" else "[Z"
def rl_ix (D : va_G) (kd k : Nat) : Nat := if kd < 50 then D.2 (kd - 1) k else if kd < 60 then D.2 50 0 else k
def rl_kd (D : va_G) (s : State) (B a kd ln : Nat) (cell : Cell) : Prop :=
  (kd < 50 → ∃ q : vw_C, clL[kd - 1]? = some q ∧ cell.cls = D.1 (kd - 1) ∧ ln = q.2.2) ∧
  (50 ≤ kd → kd < 60 → s.vm.findClass (en_nm kd) = some cell.cls ∧ ln = 1) ∧
  (60 ≤ kd → kd < 70 → cell.cls = D.1 kd) ∧
  (100 < kd → cell.slots.size = ln ∧ s.isArrayOf cell (ar_ty kd) ∧ (B ≤ a ∨ kd = 104 → s.vm.findClass (ar_nm kd) = some cell.cls) ∧ (B ≤ a → 103 < kd → ∃ (k : Class) (comp : ClassId) (kc : Class), s.vm.classes[cell.cls]? = some k ∧ k.kind = .array comp (ar_ty kd) ∧ s.vm.findClass (ar_co kd) = some comp ∧ s.vm.classes[comp]? = some kc))
def rl_cell (D : va_G) (s : State) (B : Nat) (h : Hp) (H : Heap) (a : Nat) : Prop :=
  ∃ cell : Cell, H[a]? = some cell ∧ cell.vm.isStatics = false ∧ cell.vm ≠ .unknown ∧ (B ≤ a → cell.vm = .none) ∧ rl_kd D s B a (hp_kd h a) (hp_ln h a) cell ∧ ∀ k, k < hp_ln h a → cell.slots[rl_ix D (hp_kd h a) k]? = some (hp_at h a k)
def rl_H (D : va_G) (s : State) (B : Nat) (h : Hp) (H : Heap) : Prop := H.size = hp_top h ∧ ∀ a, hp_kd h a ≠ 0 → rl_cell D s B h H a
theorem rl_kd_moved {D : va_G} {u U : State} {B a kd ln : Nat} {cell : Cell} (hvm : u.vm.Alike U.vm) (h : rl_kd D u B a kd ln cell) : rl_kd D U B a kd ln cell := by
  obtain ⟨h1, h2, h3, h4⟩ := h
  refine ⟨h1, fun a b => ⟨by rw [hvm.findClass]; exact (h2 a b).1, (h2 a b).2⟩, h3, fun a => ?_⟩
  obtain ⟨q1, q2, z1, z2⟩ := h4 a
  refine ⟨q1, State.isArrayOf_alike hvm q2, fun b => by rw [hvm.findClass]; exact z1 b, fun b c => ?_⟩
  obtain ⟨k, comp, kc, y1, y2, y3, y4⟩ := z2 b c
  obtain ⟨k', hk', e⟩ := hvm.2.2 _ _ y1
  obtain ⟨kc', hkc', ec⟩ := hvm.2.2 _ _ y4
  exact ⟨k', comp, kc', hk', by rw [e]; exact y2, by rw [hvm.findClass]; exact y3, hkc'⟩
theorem rl_H_moved {D : va_G} {u U : State} {B : Nat} {h : Hp} {H : Heap} (hvm : u.vm.Alike U.vm) (r : rl_H D u B h H) : rl_H D U B h H := by
  refine ⟨r.1, fun a ha => ?_⟩
  obtain ⟨cell, c1, c2, c3, c4, c5, c6⟩ := r.2 a ha
  exact ⟨cell, c1, c2, c3, c4, rl_kd_moved hvm c5, c6⟩
theorem rl_lt {D : va_G} {s : State} {B : Nat} {h : Hp} {H : Heap} (r : rl_H D s B h H) {a : Nat} (ha : hp_kd h a ≠ 0) : a < hp_top h := by
  obtain ⟨cell, c1, -⟩ := r.2 a ha
  rw [← r.1]
  exact (Array.getElem?_eq_some_iff.mp c1).1
/-! the frame: since the method's start only cells from B on were written -/
abbrev rl_A (B : Nat) : Nat → Prop := fun q => B ≤ q
/-- a cell is overwritten at a place -/
theorem rl_put {D : va_G} {s : State} {B : Nat} {h : Hp} {H H1 : Heap} (r : rl_H D s B h H) {a k j : Nat} {v : Value} {cell : Cell} (ha : hp_kd h a ≠ 0) (hk : k < hp_ln h a) (hj : rl_ix D (hp_kd h a) k = j)
    (hap : ∀ x, x < hp_ln h a → x ≠ k → rl_ix D (hp_kd h a) x ≠ j) (hcell : H[a]? = some cell) (hB : B ≤ a)
    (e1 : H1[a]? = some (cell.setSlot j v)) (e2 : H1.size = H.size) (e3 : ∀ q, q ≠ a → H1[q]? = H[q]?) : rl_H D s B (hp_put h a k v) H1 := by
  refine ⟨e2.trans r.1, fun b hb => ?_⟩
  have hb' : hp_kd h b ≠ 0 := hb
  obtain ⟨c, c1, c2, c3, c4, c5, c6⟩ := r.2 b hb'
  by_cases hba : b = a
  · subst hba
    cases hcell.symm.trans c1
    have hlt : j < cell.slots.size := by
      have := c6 k hk
      rw [hj] at this
      exact (Array.getElem?_eq_some_iff.mp this).1
    refine ⟨cell.setSlot j v, e1, c2, c3, c4, ?_, fun x hx => ?_⟩
    · obtain ⟨d1, d2, d3, d4⟩ := c5
      exact ⟨d1, d2, d3, fun z => ⟨(by show (cell.setSlot j v).slots.size = hp_ln h b; rw [← (d4 z).1]; simp [Cell.setSlot]), (d4 z).2.1, (d4 z).2.2⟩⟩
    · show (cell.setSlot j v).slots[rl_ix D (hp_kd h b) x]? = some (if b = b ∧ x = k then v else hp_at h b x)
      by_cases hxk : x = k
      · subst hxk
        rw [if_pos ⟨rfl, rfl⟩, hj]
        simp [Cell.setSlot, hlt]
      · rw [if_neg (fun z => hxk z.2)]
        have := hap x hx hxk
        simp only [Cell.setSlot]
        rw [Array.getElem?_setIfInBounds_ne (fun z => this z.symm)]
        exact c6 x hx
  · refine ⟨c, by rw [e3 b hba]; exact c1, c2, c3, c4, c5, fun x hx => ?_⟩
    show c.slots[rl_ix D (hp_kd h b) x]? = some (if b = a ∧ x = k then v else hp_at h b x)
    rw [if_neg (fun z => hba z.1)]
    exact c6 x hx
/-- a cell is made -/
theorem rl_new {D : va_G} {s : State} {B : Nat} {h : Hp} {H H1 : Heap} (r : rl_H D s B h H) {kd ln : Nat} {f : Nat → Value} {cell : Cell} (hB : B ≤ hp_top h)
    (e1 : H1[hp_top h]? = some cell) (e2 : H1.size = hp_top h + 1) (e3 : ∀ q, q < hp_top h → H1[q]? = H[q]?) (hv : cell.vm = .none)
    (hkd : rl_kd D s B (hp_top h) kd ln cell) (hs : ∀ k, k < ln → cell.slots[rl_ix D kd k]? = some (f k)) : rl_H D s B (hp_new h kd ln f) H1 := by
  refine ⟨e2, fun b hb => ?_⟩
  by_cases hba : b = hp_top h
  · subst hba
    have k1 : hp_kd (hp_new h kd ln f) (hp_top h) = kd := if_pos rfl
    have k2 : hp_ln (hp_new h kd ln f) (hp_top h) = ln := if_pos rfl
    refine ⟨cell, e1, (by rw [hv]; rfl), (by rw [hv]; exact fun z => nomatch z), fun _ => hv, (by rw [k1, k2]; exact hkd), fun x hx => ?_⟩
    rw [k2] at hx
    rw [k1]
    show _ = some (if hp_top h = hp_top h then f x else hp_at h (hp_top h) x)
    rw [if_pos rfl]
    exact hs x hx
  · have k1 : hp_kd (hp_new h kd ln f) b = hp_kd h b := if_neg hba
    have k2 : hp_ln (hp_new h kd ln f) b = hp_ln h b := if_neg hba
    rw [k1] at hb
    have hlt := rl_lt r hb
    obtain ⟨c, c1, c2, c3, c4, c5, c6⟩ := r.2 b hb
    refine ⟨c, by rw [e3 b hlt]; exact c1, c2, c3, c4, by rw [k1, k2]; exact c5, fun x hx => ?_⟩
    rw [k2] at hx
    rw [k1]
    show _ = some (if b = hp_top h then f x else hp_at h b x)
    rw [if_neg hba]
    exact c6 x hx
/-- cells are made that nobody looks at -/
theorem rl_skip {D : va_G} {s : State} {B : Nat} {h : Hp} {H H1 : Heap} (r : rl_H D s B h H) {n m : Nat} (e2 : H1.size = hp_top h + n) (e3 : ∀ q, q < hp_top h → H1[q]? = H[q]?) : rl_H D s B (hp_skip h n m) H1 := by
  refine ⟨e2, fun b hb => ?_⟩
  have hlt : ¬ hp_top h ≤ b := fun z => hb (if_pos z)
  have k1 : hp_kd (hp_skip h n m) b = hp_kd h b := if_neg hlt
  rw [k1] at hb
  obtain ⟨c, c1, c2, c3, c4, c5, c6⟩ := r.2 b hb
  exact ⟨c, by rw [e3 b (Nat.lt_of_not_le hlt)]; exact c1, c2, c3, c4, by rw [k1]; exact c5, fun x hx => by rw [k1]; exact c6 x hx⟩
