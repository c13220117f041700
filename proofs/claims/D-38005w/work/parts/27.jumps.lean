def ek_br (pc : Nat) : Instr → List Nat → Prop
  | .goto o, [t] => (pc : Int) + o = (t : Int)
  | .ifCond _ o, [t] => (pc : Int) + o = (t : Int)
  | .if_icmp _ o, [t] => (pc : Int) + o = (t : Int)
  | .ifnull o, [t] => (pc : Int) + o = (t : Int)
  | .ifnonnull o, [t] => (pc : Int) + o = (t : Int)
  | .if_acmp _ o, [t] => (pc : Int) + o = (t : Int)
  | .tableswitch d lo hi offs, dt :: l :: ts => (pc : Int) + d = (dt : Int) ∧ lo = (l : Int) ∧ hi = (l : Int) + (ts.length : Int) - 1 ∧ ∀ j, j < ts.length → ∃ off, offs[j]? = some off ∧ (pc : Int) + off = ((ts.getD j 0 : Nat) : Int)
  | _, _ => True
theorem isr_rf {v : Value} (h : rn_isr v = true) : ∃ r : Option Nat, v = va_rf r := by
  cases v <;> first
    | exact absurd h Bool.false_ne_true
    | exact ⟨none, rfl⟩
    | exact ⟨some _, rfl⟩
theorem rf_inj {x y : Option Nat} (h : va_rf x = va_rf y) : x = y := by
  cases x <;> cases y <;> simp_all [va_rf]
section SXF
variable {p : Program} {l : Launch} {e : Env} {R : Room} {s : State} {m : MethodId} {args : Array Value} {below : List Frame} {meth : Method} {c : Code} {H : Heap} {locs : List Loc} {cells slots : Nat} {Q : State → Prop}
variable {cc : ByteArray} {pc : Nat} {ls : Array Slot}
theorem sx_if1 (hx : p.tables.exec = Jvm.exec) (hb : c.code = cc) {cd : ClassFile.Cond} {o : Int} {t : Nat} {x : Int32} {r : List Value} (hd : decode cc pc = .ok (.ifCond cd o, 3)) (ht : (pc : Int) + o = (t : Int))
    (k : W p l e R s m args below meth c H locs cells slots Q (F0 m (if rn_ci cd x 0 = true then t else pc + 3) ls r)) : W p l e R s m args below meth c H locs cells slots Q (F0 m pc ls (.int x :: r)) := by
  cases cd <;> simp only [rn_ci, decide_eq_true_eq] at k
  · exact lv_if_eq hx hb hd ht (fun z => by rw [if_pos z] at k; exact k) (fun z => by rw [if_neg z] at k; exact k)
  · exact lv_if_ne hx hb hd ht (fun z => by rw [if_pos z] at k; exact k) (fun z => by rw [if_neg (fun q => q z)] at k; exact k)
  · exact lv_if_lt hx hb hd ht (fun z => by rw [if_pos z] at k; exact k) (fun z => by rw [if_neg z] at k; exact k)
  · exact lv_if_ge hx hb hd ht (fun z => by rw [if_pos z] at k; exact k) (fun z => by rw [if_neg z] at k; exact k)
  · exact lv_if_gt hx hb hd ht (fun z => by rw [if_pos z] at k; exact k) (fun z => by rw [if_neg z] at k; exact k)
  · exact lv_if_le hx hb hd ht (fun z => by rw [if_pos z] at k; exact k) (fun z => by rw [if_neg z] at k; exact k)
theorem sx_if2 (hx : p.tables.exec = Jvm.exec) (hb : c.code = cc) {cd : ClassFile.Cond} {o : Int} {t : Nat} {x y : Int32} {r : List Value} (hd : decode cc pc = .ok (.if_icmp cd o, 3)) (ht : (pc : Int) + o = (t : Int))
    (k : W p l e R s m args below meth c H locs cells slots Q (F0 m (if rn_ci cd x y = true then t else pc + 3) ls r)) : W p l e R s m args below meth c H locs cells slots Q (F0 m pc ls (.int y :: .int x :: r)) := by
  cases cd <;> simp only [rn_ci, decide_eq_true_eq] at k
  · exact lv_icmp_eq hx hb hd ht (fun z => by rw [if_pos z] at k; exact k) (fun z => by rw [if_neg z] at k; exact k)
  · exact lv_icmp_ne hx hb hd ht (fun z => by rw [if_pos z] at k; exact k) (fun z => by rw [if_neg (fun q => q z)] at k; exact k)
  · exact lv_icmp_lt hx hb hd ht (fun z => by rw [if_pos z] at k; exact k) (fun z => by rw [if_neg z] at k; exact k)
  · exact lv_icmp_ge hx hb hd ht (fun z => by rw [if_pos z] at k; exact k) (fun z => by rw [if_neg z] at k; exact k)
  · exact lv_icmp_gt hx hb hd ht (fun z => by rw [if_pos z] at k; exact k) (fun z => by rw [if_neg z] at k; exact k)
  · exact lv_icmp_le hx hb hd ht (fun z => by rw [if_pos z] at k; exact k) (fun z => by rw [if_neg z] at k; exact k)
theorem sx_tsw (hx : p.tables.exec = Jvm.exec) (hb : c.code = cc) {d lo hi : Int} {offs : Array Int} {len dt l0 : Nat} {ts : List Nat} {x : Int32} {r : List Value} (hd : decode cc pc = .ok (.tableswitch d lo hi offs, len)) (ht : ek_br pc (.tableswitch d lo hi offs) (dt :: l0 :: ts))
    (k : W p l e R s m args below meth c H locs cells slots Q (F0 m (if x.toInt < (l0 : Int) then dt else ts.getD (x.toInt - l0).toNat dt) ls r)) : W p l e R s m args below meth c H locs cells slots Q (F0 m pc ls (.int x :: r)) := by
  obtain ⟨t1, rfl, rfl, t4⟩ := ht
  by_cases hlo : x.toInt < (l0 : Int)
  · rw [if_pos hlo] at k
    exact lv_tableOut hx hb hd (Or.inl hlo) t1 k
  · rw [if_neg hlo] at k
    by_cases hhi : (l0 : Int) + (ts.length : Int) - 1 < x.toInt
    · rw [show ts.getD (x.toInt - l0).toNat dt = dt from by rw [List.getD_eq_getElem?_getD, List.getElem?_eq_none (by omega)]; rfl] at k
      exact lv_tableOut hx hb hd (Or.inr hhi) t1 k
    · obtain ⟨off, o1, o2⟩ := t4 (x.toInt - l0).toNat (by omega)
      rw [show ts.getD (x.toInt - l0).toNat dt = ts.getD (x.toInt - l0).toNat 0 from by
        rw [List.getD_eq_getElem?_getD, List.getD_eq_getElem?_getD, List.getElem?_eq_getElem (by omega)]; rfl] at k
      exact lv_tableIn hx hb hd hlo hhi o1 o2 k
theorem sx_br (hx : p.tables.exec = Jvm.exec) (hb : c.code = cc) {i : Instr} {len : Nat} {ops : List Nat} (hd : decode cc pc = .ok (i, len)) (hlen : len = rn_len i ∨ ∃ a b c d, i = .tableswitch a b c d) (ht : ek_br pc i ops)
    {st : List Value} {q : Nat × List Value} (h : rn_br i ops (pc + len) st = some q) (k : W p l e R s m args below meth c H locs cells slots Q (F0 m q.1 ls q.2)) : W p l e R s m args below meth c H locs cells slots Q (F0 m pc ls st) := by
  unfold rn_br at h
  split at h
  · cases h
    have e1 : len = 3 := by rcases hlen with z | ⟨_, _, _, _, z⟩; exact z; cases z
    subst e1
    exact lv_goto hx hb hd ht k
  · cases h
    have e1 : len = 3 := by rcases hlen with z | ⟨_, _, _, _, z⟩; exact z; cases z
    subst e1
    exact sx_if1 hx hb hd ht k
  · cases h
    have e1 : len = 3 := by rcases hlen with z | ⟨_, _, _, _, z⟩; exact z; cases z
    subst e1
    exact sx_if2 hx hb hd ht k
  · cases h
    have e1 : len = 3 := by rcases hlen with z | ⟨_, _, _, _, z⟩; exact z; cases z
    subst e1
    exact lv_ifnullN hx hb hd ht k
  · cases h
    have e1 : len = 3 := by rcases hlen with z | ⟨_, _, _, _, z⟩; exact z; cases z
    subst e1
    exact lv_ifnull hx hb hd k
  · cases h
    have e1 : len = 3 := by rcases hlen with z | ⟨_, _, _, _, z⟩; exact z; cases z
    subst e1
    exact lv_ifnonnullN hx hb hd k
  · cases h
    have e1 : len = 3 := by rcases hlen with z | ⟨_, _, _, _, z⟩; exact z; cases z
    subst e1
    exact lv_ifnonnull hx hb hd ht k
  · split at h
    · next hr =>
      cases h
      have e1 : len = 3 := by rcases hlen with z | ⟨_, _, _, _, z⟩; exact z; cases z
      subst e1
      simp only [Bool.and_eq_true] at hr
      obtain ⟨rx, rfl⟩ := isr_rf hr.1
      obtain ⟨ry, rfl⟩ := isr_rf hr.2
      exact lv_acmp_eq hx hb hd ht (fun z => by rw [if_pos (by rw [z])] at k; exact k) (fun z => by rw [if_neg (fun q => z (rf_inj q))] at k; exact k)
    · cases h
  · split at h
    · next hr =>
      cases h
      have e1 : len = 3 := by rcases hlen with z | ⟨_, _, _, _, z⟩; exact z; cases z
      subst e1
      simp only [Bool.and_eq_true] at hr
      obtain ⟨rx, rfl⟩ := isr_rf hr.1
      obtain ⟨ry, rfl⟩ := isr_rf hr.2
      exact lv_acmp_ne hx hb hd ht (fun z => by rw [if_neg (fun q => z (rf_inj q))] at k; exact k) (fun z => by rw [if_pos (by rw [z])] at k; exact k)
    · cases h
  · cases h
    exact sx_tsw hx hb hd ht k
  · cases h
end SXF
