/-! multianewarray of two dimensions -/
section MUL
variable {p : Program} {l : Launch} {e : Env} {R : Room} {s : State} {m : MethodId} {args : Array Value} {below : List Frame} {meth : Method} {c : Code}
def ml_in (comp : ClassId) (t : FieldType) (len : Nat) : Cell := { cls := comp, slots := Array.replicate len (defaultValue t), vm := .none }
theorem mk1_wp {comp comp2 : Nat} {kc : Class} {t : FieldType} {cnt : Int32} {U : State} {Q : Addr → Pre} {Ec : CtlPost} {d : Bool} {acts : List Action} (hkc : U.vm.classes[comp]? = some kc) (hkind : kc.kind = .array comp2 t) (hn : ¬ cnt < 0) (hl1 : ¬ cnt.toNatClampNeg > e.platform.arrayLengthLimit) (hl2 : ¬ cnt.toNatClampNeg * componentBytes t > e.platform.maxHeapBytes)
    (hcells : U.heap.size < e.platform.maxCells) (hslots : U.slotsUsed + cnt.toNatClampNeg ≤ e.platform.maxSlots) (hfd : fits t (defaultValue t) = true) (hq : ∀ acts', Q U.heap.size d acts' (U.pushCell (ml_in comp t cnt.toNatClampNeg))) : wp (Op.multianewarray.make comp [cnt]) Q Ec e d acts U := by
  unfold Op.multianewarray.make
  simp only [wp_bind', W.ite, hn, if_false, wp_pure', W.theClass, hkc, Option.some.injEq, exists_eq_left', hkind]
  exact W.newArray_of (k := kc) hkc hkind hl1 hl2 hcells hslots hfd hq
theorem mul_loop {a comp comp2 : Nat} {kc : Class} {t : FieldType} {cnt : Int32} (hkc : s.vm.classes[comp]? = some kc) (hkind : kc.kind = .array comp2 t) {kA : Class} {cA compA : ClassId} {tA : FieldType} (hkA : s.vm.classes[cA]? = some kA) (hkindA : kA.kind = .array compA tA) (hrefA : ∀ x, fits tA (.ref x) = true) (hn : ¬ cnt < 0) (hb : cnt.toNatClampNeg ≤ 1000) (hcb : componentBytes t ≤ 8) (hfd : fits t (defaultValue t) = true) :
    ∀ (k i : Nat) (U : State) (locs : List Loc) (cells slots : Nat) (cell : Cell), Stand p l e R s m args below meth c U locs cells slots → U.heap[a]? = some cell → cell.vm = .none → cell.cls = cA → i + k ≤ cell.slots.size → cells + k ≤ R.cells → slots + k * cnt.toNatClampNeg ≤ R.slots →
    ∃ (U' : State) (locs' : List Loc) (cell' : Cell), Stand p l e R s m args below meth c U' locs' (cells + k) (slots + k * cnt.toNatClampNeg) ∧ U'.heap[a]? = some cell' ∧ cell'.vm = .none ∧ cell'.cls = cA ∧ cell'.slots.size = cell.slots.size ∧
      (∀ j, cell'.slots[j]? = if i ≤ j ∧ j < i + k then some (.ref (U.heap.size + (j - i))) else cell.slots[j]?) ∧ U'.heap.size = U.heap.size + k ∧ (∀ q, q < U.heap.size → q ≠ a → U'.heap[q]? = U.heap[q]?) ∧
      (∀ q, U.heap.size ≤ q → q < U.heap.size + k → U'.heap[q]? = some (ml_in comp t cnt.toNatClampNeg)) ∧ (∀ z ∈ locs', z ∈ locs ∨ z.base = a) ∧
      ∀ (f : Nat → PUnit → Sem (ForInStep PUnit)), (∀ i u, f i u = (do let x ← Op.multianewarray.make comp [cnt]; Jvm.writeLoc a i (.ref x); Pure.pure (ForInStep.yield PUnit.unit))) →
        ∀ (Q : PUnit → Pre) (Ec : CtlPost) (d : Bool) (acts : List Action) (g : JFrame), (∀ d' acts', Q PUnit.unit d' acts' (U'.setTop g)) → wp (forIn (List.range' i k) PUnit.unit f) Q Ec e d acts (U.setTop g) := by
  intro k
  induction k with
  | zero =>
    intro i U locs cells slots cell X h1 h2 h3 h4 h5 h6
    refine ⟨U, locs, cell, by simpa using X, h1, h2, h3, rfl, fun j => ?_, rfl, fun _ _ _ => rfl, fun q z1 z2 => by omega, fun z hz => Or.inl hz, fun f hf Q Ec d acts g hq => ?_⟩
    · rw [if_neg (by omega)]
    · simp only [List.range'_zero, List.forIn_nil, wp_pure']
      exact hq d acts
  | succ k ih =>
    intro i U locs cells slots cell X h1 h2 h3 h4 h5 h6
    have hmul : (k + 1) * cnt.toNatClampNeg = cnt.toNatClampNeg + k * cnt.toNatClampNeg := by rw [Nat.add_mul]; omega
    have hlt : a < U.heap.size := (Array.getElem?_eq_some_iff.mp h1).1
    have X1 := X.pushed (ml_in comp t cnt.toNatClampNeg)
    have hsz1 : (ml_in comp t cnt.toNatClampNeg).slots.size = cnt.toNatClampNeg := by simp [ml_in]
    rw [hsz1] at X1
    have g1 : (U.pushCell (ml_in comp t cnt.toNatClampNeg)).heap[a]? = some cell := by
      show (U.heap.push _)[a]? = _
      rw [Array.getElem?_push, if_neg (Nat.ne_of_lt hlt)]
      exact h1
    have X2 := X1.stored g1 i (.ref U.heap.size)
    obtain ⟨r1, r2⟩ := X.roomAbove (a := 1) (b := cnt.toNatClampNeg) (by omega) (by omega)
    have hV := X.warmed.alike
    obtain ⟨kc', hkc', ekc⟩ := hV.2.2 _ _ hkc
    obtain ⟨kA', hkA', ekA⟩ := hV.2.2 _ _ hkA
    have hl1 : ¬ cnt.toNatClampNeg > e.platform.arrayLengthLimit := by rw [Launch.admits_arrayLengthLimit X.admits]; omega
    have hl2 : ¬ cnt.toNatClampNeg * componentBytes t > e.platform.maxHeapBytes := by
      rw [Launch.admits_maxHeapBytes X.admits]
      have : cnt.toNatClampNeg * componentBytes t ≤ 1000 * 8 := Nat.mul_le_mul hb hcb
      omega
    have hilt : i < cell.slots.size := by omega
    have z1 : ((U.pushCell (ml_in comp t cnt.toNatClampNeg)).setCell a (cell.setSlot i (.ref U.heap.size))).heap[a]? = some (cell.setSlot i (.ref U.heap.size)) := by
      show ((U.heap.push _).setIfInBounds a _)[a]? = _
      simp [Nat.lt_succ_of_lt hlt]
    have zs : ((U.pushCell (ml_in comp t cnt.toNatClampNeg)).setCell a (cell.setSlot i (.ref U.heap.size))).heap.size = U.heap.size + 1 := by
      show ((U.heap.push _).setIfInBounds a _).size = _
      simp
    have zo : ∀ q, q ≠ a → ((U.pushCell (ml_in comp t cnt.toNatClampNeg)).setCell a (cell.setSlot i (.ref U.heap.size))).heap[q]? = (U.heap.push (ml_in comp t cnt.toNatClampNeg))[q]? := fun q hq => by
      show ((U.heap.push _).setIfInBounds a _)[q]? = _
      simp [Array.getElem?_setIfInBounds, Ne.symm hq]
    obtain ⟨U', locs', cell', i1, i2, i3, i4, i5, i6, i7, i8, i9, i10, i11⟩ := ih (i + 1) _ _ _ _ _ X2 z1 h2 h3 (by simp [Cell.setSlot]; omega) (by omega) (by omega)
    refine ⟨U', locs', cell', by rw [hmul, Nat.add_comm k 1, ← Nat.add_assoc, ← Nat.add_assoc]; exact i1, i2, i3, i4, by rw [i5]; simp [Cell.setSlot], fun j => ?_, by rw [i7, zs]; omega, fun q w1 w2 => ?_, fun q w1 w2 => ?_, fun z hz => ?_, fun f hf Q Ec d acts g hq => ?_⟩
    · rw [i6 j, zs]
      by_cases hj : j = i
      · subst hj
        rw [if_neg (by omega), if_pos (by omega)]
        simp [Cell.setSlot, hilt]
      · by_cases hj2 : i + 1 ≤ j ∧ j < i + 1 + k
        · rw [if_pos hj2, if_pos (by omega)]
          rw [show U.heap.size + 1 + (j - (i + 1)) = U.heap.size + (j - i) by omega]
        · rw [if_neg hj2, if_neg (by omega)]
          simp only [Cell.setSlot]
          rw [Array.getElem?_setIfInBounds_ne (fun z => hj z.symm)]
    · rw [i8 q (by rw [zs]; omega) w2, zo q w2, Array.getElem?_push, if_neg (by omega)]
    · by_cases hq0 : q = U.heap.size
      · subst hq0
        rw [i8 _ (by rw [zs]; omega) (by omega), zo _ (by omega), Array.getElem?_push, if_pos rfl]
      · exact i9 q (by rw [zs]; omega) (by rw [zs]; omega)
    · rcases i10 z hz with w | w
      · rcases List.mem_append.mp w with w | w
        · exact Or.inl w
        · rw [List.mem_singleton.mp w]; exact Or.inr rfl
      · exact Or.inr w
    · rw [List.range'_succ]
      simp only [List.forIn_cons, hf, wp_bind']
      refine mk1_wp (kc := kc') (comp2 := comp2) (t := t) hkc' (by rw [ekc]; exact hkind) hn hl1 hl2 (by show U.heap.size < _; omega) (by show U.slotsUsed + _ ≤ _; exact r2) hfd fun acts' => ?_
      simp only [wp_bind', W.writeLoc, wp_pure']
      refine ⟨cell, g1, (by rw [h2]; exact fun z => nomatch z), hilt, ?_, ?_⟩
      · have hkk : kA'.kind = .array compA tA := by rw [ekA]; exact hkindA
        show State.fitsSlot U cell.cls cell.vm i (.ref U.heap.size) = true
        simp only [State.fitsSlot, State.slotType?, h2, h3, hkA', Option.bind_eq_bind, Option.bind_some, hkk]
        exact hrefA _
      · exact i11 f hf Q Ec _ _ g hq
theorem mul_step {T : State} {locs : List Loc} {cells slots : Nat} (X : Stand p l e R s m args below meth c T locs cells slots) (hexec : p.tables.exec = Jvm.exec) {own : String} {index : Nat} {t : FieldType} (hown : s.vm.findClass own = some m.cls) (hclink : (Cond.classLink own index ("[" ++ (FieldType.array t).toString)).before args s = true) (hml : ml_ok t s)
    {g : JFrame} (hg : g.method = m) (hdg : decode c.code g.pc = .ok (.multianewarray index 2, 4)) {n cnt : Int32} {rest : List Value} (hstack : g.stack = .int cnt :: .int n :: rest) (hn0 : ¬ n < 0) (hn1 : n.toNatClampNeg ≤ 1000) (hn : ¬ cnt < 0) (hb : cnt.toNatClampNeg ≤ 1000) (hcb : componentBytes t ≤ 8) (hfd : fits t (defaultValue t) = true)
    (hcells : cells + (1 + n.toNatClampNeg) ≤ R.cells) (hslots : slots + (n.toNatClampNeg + n.toNatClampNeg * cnt.toNatClampNeg) ≤ R.slots) :
    ∃ (U' : State) (locs' : List Loc) (comp cA : ClassId) (cell' : Cell), s.vm.findClass (FieldType.array t).toString = some comp ∧ s.vm.findClass ("[" ++ (FieldType.array t).toString) = some cA ∧ Stand p l e R s m args below meth c U' locs' (cells + (1 + n.toNatClampNeg)) (slots + (n.toNatClampNeg + n.toNatClampNeg * cnt.toNatClampNeg)) ∧
      U'.heap[T.heap.size]? = some cell' ∧ cell'.vm = .none ∧ cell'.cls = cA ∧ cell'.slots.size = n.toNatClampNeg ∧ (∀ j, j < n.toNatClampNeg → cell'.slots[j]? = some (.ref (T.heap.size + 1 + j))) ∧ U'.heap.size = T.heap.size + 1 + n.toNatClampNeg ∧ (∀ q, q < T.heap.size → U'.heap[q]? = T.heap[q]?) ∧
      (∀ q, T.heap.size < q → q ≤ T.heap.size + n.toNatClampNeg → U'.heap[q]? = some (ml_in comp t cnt.toNatClampNeg)) ∧ (∀ z ∈ locs', z ∈ locs ∨ z.base = T.heap.size) ∧
      ∀ target, Steps p.tables e below (U'.setTop { g with pc := g.pc + 4, stack := .ref T.heap.size :: rest }) target → Steps p.tables e below (T.setTop g) target := by
  subst hg
  have hpl : e.platform.magicAccessors = ({} : Platform).magicAccessors := by rw [X.admits.platform]
  obtain ⟨comp, cA, kA, kc, comp2, m1, m2, m3, m4, m5, m6⟩ := hml
  obtain ⟨cc', hfcc, hcl⟩ := Cond.classLink_spec hown hclink e.platform hpl
  cases m2.symm.trans hfcc
  obtain ⟨hg₁, hwarm₁, hready₁⟩ := State.classEntry (e := e) X.warmed hcl
  generalize T.vm.noted g.method.cls index (.cls cA) = vm₁ at hg₁ hwarm₁ hready₁
  have hal : s.vm.Alike vm₁ := hwarm₁.alike
  obtain ⟨kA₁, hkA₁, heA⟩ := hal.2.2 _ _ m3
  have hkindA₁ : kA₁.kind = .array comp (.array t) := by rw [heA]; exact m4
  have X₁ := X.noted hwarm₁
  have X₂ := X₁.pushed { cls := cA, slots := Array.replicate n.toNatClampNeg .null, vm := .none }
  have hsz2 : ({ cls := cA, slots := Array.replicate n.toNatClampNeg .null, vm := .none } : Cell).slots.size = n.toNatClampNeg := by simp
  rw [hsz2] at X₂
  have hc2 : ((T.setVm vm₁).pushCell { cls := cA, slots := Array.replicate n.toNatClampNeg .null, vm := .none }).heap[T.heap.size]? = some { cls := cA, slots := Array.replicate n.toNatClampNeg .null, vm := .none } := by
    show (T.heap.push _)[T.heap.size]? = _
    exact Array.getElem?_push_size
  have hs2 : ((T.setVm vm₁).pushCell { cls := cA, slots := Array.replicate n.toNatClampNeg .null, vm := .none }).heap.size = T.heap.size + 1 := by
    show (T.heap.push _).size = _
    simp
  obtain ⟨r1, r2⟩ := X.roomAbove (a := 1 + n.toNatClampNeg) (b := n.toNatClampNeg + n.toNatClampNeg * cnt.toNatClampNeg) hcells hslots
  obtain ⟨U', locs', cell', i1, i2, i3, i4, i5, i6, i7, i8, i9, i10, i11⟩ := mul_loop (a := T.heap.size) m5 m6 m3 m4 (fun _ => rfl) hn hb hcb hfd n.toNatClampNeg 0 _ _ _ _ _ X₂ hc2 rfl rfl (by simp) (by omega) (by omega)
  refine ⟨U', locs', comp, cA, cell', m1, m2, by rw [← Nat.add_assoc, ← Nat.add_assoc]; exact i1, i2, i3, i4, by rw [i5]; simp, fun j hj => ?_, by rw [i7, hs2], fun q hq => ?_, fun q h1 h2 => i9 q (by rw [hs2]; omega) (by rw [hs2]; omega), i10, fun target hrest => ?_⟩
  · rw [i6 j, if_pos (by omega), hs2]
    simp
  · rw [i8 q (by rw [hs2]; omega) (by omega)]
    show (T.heap.push _)[q]? = _
    rw [Array.getElem?_push, if_neg (by omega)]
  · have hlim : ¬ n.toNatClampNeg > e.platform.arrayLengthLimit := by rw [Launch.admits_arrayLengthLimit X.admits]; omega
    have hhp : ¬ n.toNatClampNeg * componentBytes (.array t) > e.platform.maxHeapBytes := by
      rw [Launch.admits_maxHeapBytes X.admits]; show ¬ n.toNatClampNeg * 4 > 536870912; omega
    refine Steps.instr (c := c) (by simpa using X.here) ?_
    rw [hdg]
    dsimp only
    rw [hexec]
    show wp (Op.multianewarray.sem index 2) _ _ e false [] (T.setTop g)
    unfold Op.multianewarray.sem
    simp only [wp_bind']
    refine (W.resolveClassAt_transfer (s := T.setTop g) (State.method?_setTop g X.here.top) hg₁ hready₁ (by no_record)).mpr ?_
    refine (W.resolveClassAt_ready (s := (T.setVm vm₁).setTop g) (State.method?_setTop g X.here.top) hready₁).mpr ?_
    simp only [Jvm.popN, wp_bind', W.pop, State.topJava?_setTop' g X₁.here.top, Option.some.injEq, exists_eq_left', hstack, List.cons.injEq, exists_cons_eq, State.setTop_setTop, wp_pure', List.nil_append, List.cons_append, List.mapM_cons, List.mapM_nil]
    refine ⟨_, State.topJava?_setTop' _ X₁.here.top, .int n, rest, rfl, ?_⟩
    simp only [wp_bind', wp_pure', State.setTop_setTop]
    unfold Op.multianewarray.make
    simp only [wp_bind', W.ite, hn0, if_false, wp_pure', W.theClass, State.vm_setTop, State.vm_setVm, hkA₁, Option.some.injEq, exists_eq_left', hkindA₁]
    refine W.newArray_of (s := (T.setVm vm₁).setTop _) (k := kA₁) hkA₁ hkindA₁ hlim hhp (by show T.heap.size < _; omega) (by show T.slotsUsed + _ ≤ _; omega) rfl fun acts' => ?_
    have hfnd : List.find? (fun x : Int32 => decide (x < 0)) [cnt] = none := by simp [hn]
    rw [hfnd]
    dsimp only
    rw [ite_self]
    simp only [wp_bind', Std.Legacy.Range.forIn_eq_forIn_range', Std.Legacy.Range.size, Nat.sub_zero, Nat.add_sub_cancel, Nat.div_one]
    refine i11 _ (fun i u => rfl) _ _ _ _ _ (fun d' acts'' => ?_)
    simp only [wp_pure', W.mark, wp_bind', W.pushRef]
    refine ⟨_, State.topJava?_setTop' _ i1.here.top, fun acts3 => ?_⟩
    rw [State.setTop_setTop, afterInstr_ok]
    exact hrest
variable {H : Heap} {locs : List Loc} {cells slots : Nat} {Q : State → Prop}
variable {cc : ByteArray} {pc : Nat} {ls : Array Slot} {rest : List Value} {D : va_G} {E : Env0} {h : Hp}
def ek_mu (own : String) (ix dm k1 k2 : Nat) : Prop := dm = 2 ∧ (k1 = kII ∧ k2 = kI ∨ k1 = kZZ ∧ k2 = kZ) ∧ Cond.classLink own ix (ar_nm k1) ∈ lw_all
theorem sx_mul (hx : p.tables.exec = Jvm.exec) (hb : c.code = cc) {own : String} (hown : s.vm.findClass own = some m.cls) (hts : ∀ w ∈ lw_all, w.before args s = true) (hM : kv_mul s) (hr : rl_H D s E.1 h H) (hS0 : va_S (rl_A E.1) s.heap H locs) (hB : E.1 ≤ s.heap.size)
    {ix dm k1 k2 : Nat} {n cnt : Int32} (hk : ek_mu own ix dm k1 k2) (hn0 : ¬ n < 0) (hn1 : n.toNatClampNeg ≤ 1000) (hn : ¬ cnt < 0) (hb1 : cnt.toNatClampNeg ≤ 1000) (hc : cells + (1 + n.toNatClampNeg) ≤ R.cells) (hs : slots + (n.toNatClampNeg + n.toNatClampNeg * cnt.toNatClampNeg) ≤ R.slots) (hd : decode cc pc = .ok (.multianewarray ix dm, 4))
    (kk : ∀ (H1 : Heap) (locs1 : List Loc), rl_H D s E.1 (hp_mul h k1 k2 n.toNatClampNeg cnt.toNatClampNeg (.int 0)) H1 → va_S (rl_A E.1) s.heap H1 locs1 → W p l e R s m args below meth c H1 locs1 (cells + (1 + n.toNatClampNeg)) (slots + (n.toNatClampNeg + n.toNatClampNeg * cnt.toNatClampNeg)) Q (F0 m (pc + 4) ls (.ref (hp_top h) :: rest))) : W p l e R s m args below meth c H locs cells slots Q (F0 m pc ls (.int cnt :: .int n :: rest)) := by
  obtain ⟨rfl, hkk, hcl⟩ := hk
  obtain ⟨t, ht1, ht2, ht3, ht4, ht5⟩ : ∃ t : FieldType, ml_ok t s ∧ ar_nm k1 = "[" ++ (FieldType.array t).toString ∧ ar_ty k2 = t ∧ ar_ty k1 = .array t ∧ (componentBytes t ≤ 8 ∧ fits t (defaultValue t) = true ∧ defaultValue t = .int 0 ∧ ar_co k1 = (FieldType.array t).toString ∧ ar_nm k2 = (FieldType.array t).toString) := by
    rcases hkk with ⟨rfl, rfl⟩ | ⟨rfl, rfl⟩
    · exact ⟨.int, hM.1, by decide +kernel, rfl, rfl, by decide, by decide, rfl, by decide +kernel, by decide +kernel⟩
    · exact ⟨.boolean, hM.2, by decide +kernel, rfl, rfl, by decide, by decide, rfl, by decide +kernel, by decide +kernel⟩
  obtain ⟨q1, q2, q3, q4, q5⟩ := ht5
  rw [ht2] at hcl
  have hk1 : 106 < k1 := by rcases hkk with ⟨rfl, -⟩ | ⟨rfl, -⟩ <;> decide
  have hk2 : 100 < k2 ∧ k2 < 103 := by rcases hkk with ⟨-, rfl⟩ | ⟨-, rfl⟩ <;> decide
  have hml := ht1
  intro T hT X
  subst hb
  obtain ⟨U', locs', comp, cA, cell', m1, m2, i1, i2, i3, i4, i5, i6, i7, i8, i9, i10, i11⟩ := mul_step X hx (t := t) hown (hts _ hcl) ht1 (g := F0 m pc ls (.int cnt :: .int n :: rest)) rfl hd rfl hn0 hn1 hn hb1 q1 q2 hc hs
  obtain ⟨comp', cA', kA, kc, comp2, w1, w2, w3, w4, w5, w6⟩ := hml
  cases m1.symm.trans w1
  cases m2.symm.trans w2
  have htop : T.heap.size = hp_top h := by rw [hT]; exact hr.1
  have hBt : E.1 ≤ hp_top h := Nat.le_trans hB (by rw [← hr.1]; exact hS0.1)
  have hR : rl_H D s E.1 (hp_mul h k1 k2 n.toNatClampNeg cnt.toNatClampNeg (.int 0)) U'.heap := by
    refine ⟨by rw [i7, htop]; rfl, fun b hb0 => ?_⟩
    by_cases hb1 : b = hp_top h
    · subst hb1
      have e1 : hp_kd (hp_mul h k1 k2 n.toNatClampNeg cnt.toNatClampNeg (.int 0)) (hp_top h) = k1 := if_pos rfl
      have e2 : hp_ln (hp_mul h k1 k2 n.toNatClampNeg cnt.toNatClampNeg (.int 0)) (hp_top h) = n.toNatClampNeg := if_pos rfl
      refine ⟨cell', by rw [← htop]; exact i2, by rw [i3]; rfl, (by rw [i3]; exact fun z => nomatch z), fun _ => i3, ?_, fun x hx => ?_⟩
      · rw [e1, e2]
        refine ⟨fun z => by omega, fun _ z => by omega, fun _ z => by omega, fun _ => ⟨i5, ⟨fun z => (by rw [i3]; exact fun y => nomatch y), kA, by rw [i4]; exact w3, comp, by rw [ht4]; exact w4⟩, fun _ => by rw [ht2, i4]; exact m2, fun _ _ => ⟨kA, comp, kc, by rw [i4]; exact w3, by rw [ht4]; exact w4, by rw [q4]; exact m1, w5⟩⟩⟩
      · rw [e2] at hx
        rw [e1, show rl_ix D k1 x = x from by unfold rl_ix; rw [if_neg (by omega), if_neg (by omega)]]
        show _ = some (if hp_top h = hp_top h then Value.ref (hp_top h + 1 + x) else _)
        rw [if_pos rfl, i6 x hx, htop]
    · by_cases hb2 : hp_top h < b ∧ b ≤ hp_top h + n.toNatClampNeg
      · have e1 : hp_kd (hp_mul h k1 k2 n.toNatClampNeg cnt.toNatClampNeg (.int 0)) b = k2 := (if_neg hb1).trans (if_pos hb2)
        have e2 : hp_ln (hp_mul h k1 k2 n.toNatClampNeg cnt.toNatClampNeg (.int 0)) b = cnt.toNatClampNeg := (if_neg hb1).trans (if_pos hb2)
        refine ⟨ml_in comp t cnt.toNatClampNeg, i9 b (by rw [htop]; exact hb2.1) (by rw [htop]; exact hb2.2), rfl, (fun z => nomatch z), fun _ => rfl, ?_, fun x hx => ?_⟩
        · rw [e1, e2]
          refine ⟨fun z => by omega, fun _ z => by omega, fun _ z => by omega, fun _ => ⟨by simp [ml_in], ⟨fun z y => (nomatch y), kc, w5, comp2, by rw [ht3]; exact w6⟩, fun _ => by rw [q5]; exact m1, fun _ z => by omega⟩⟩
        · rw [e2] at hx
          rw [e1, show rl_ix D k2 x = x from by unfold rl_ix; rw [if_neg (by omega), if_neg (by omega)]]
          show _ = some (if b = hp_top h then _ else if hp_top h < b ∧ b ≤ hp_top h + n.toNatClampNeg then Value.int 0 else _)
          rw [if_neg hb1, if_pos hb2]
          simp only [ml_in, Array.getElem?_replicate, hx, if_true, q3]
      · have e1 : hp_kd (hp_mul h k1 k2 n.toNatClampNeg cnt.toNatClampNeg (.int 0)) b = hp_kd h b := (if_neg hb1).trans (if_neg hb2)
        have e2 : hp_ln (hp_mul h k1 k2 n.toNatClampNeg cnt.toNatClampNeg (.int 0)) b = hp_ln h b := (if_neg hb1).trans (if_neg hb2)
        rw [e1] at hb0
        have hlt := rl_lt hr hb0
        obtain ⟨cx, x1, x2, x3, x4, x5, x6⟩ := hr.2 b hb0
        refine ⟨cx, by rw [i8 b (by rw [htop]; exact hlt), hT]; exact x1, x2, x3, x4, by rw [e1, e2]; exact x5, fun x hx => ?_⟩
        rw [e2] at hx
        rw [e1]
        show _ = some (if b = hp_top h then _ else if hp_top h < b ∧ b ≤ hp_top h + n.toNatClampNeg then Value.int 0 else hp_at h b x)
        rw [if_neg hb1, if_neg hb2]
        exact x6 x hx
  have hS1 : va_S (rl_A E.1) s.heap U'.heap locs' := by
    refine ⟨by rw [i7, hT]; exact Nat.le_trans hS0.1 (by omega), fun q g1 g2 => ?_, fun z hz => ?_⟩
    · rw [i8 q (by rw [hT]; exact Nat.lt_of_lt_of_le g1 hS0.1), hT]
      exact hS0.2.1 q g1 g2
    · rcases i10 z hz with y | y
      · exact hS0.2.2 z y
      · rw [y, htop]; exact hBt
  obtain ⟨t2, a1, b1⟩ := kk _ _ hR hS1 U' rfl i1
  rw [← htop] at a1
  exact ⟨t2, i11 t2 a1, b1⟩
end MUL
