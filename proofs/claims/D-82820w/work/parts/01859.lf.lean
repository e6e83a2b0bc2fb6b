/-! fields of lists, over the heap itself -/
section
variable {p : Program} {l : Launch} {e : Env} {R : Room} {s : State} {m : MethodId} {args : Array Value} {below : List Frame} {meth : Method} {c : Code} {H : Heap} {locs : List Loc} {cells slots : Nat} {Q : State → Prop}
variable {cc : ByteArray} {pc : Nat} {ls : Array Slot} {rest : List Value} {G : GX}
theorem lf (hEV : EV8 G s) (j : Nat) (hj : j < 3) : ∃ cf k i f, s.fieldFound? (TJ5 j).1 (TJ5 j).2.1 (TJ5 j).2.2.1 = some (cf, k, i, f) ∧ f.isStatic = false ∧ f.slot = (gD G).2 190 j := by
  have hq : clsR190 ∈ clsT := by simp [clsT]
  obtain ⟨hS, hfc, kC, hkC, hkind⟩ := hEV.2.1.1 clsR190 hq
  obtain ⟨cf, kf, fi, fd, hi, hsl⟩ := hS j hj
  have hst := (u_facts (args := #[]) hfc hkC (u_lays (ws := lw_all) (fun w hw => hEV.1.all hw) (clsT_ok clsR190 hq).1 hj) hi).1
  exact ⟨cf, kf, fi, fd, hi, hst, hsl⟩
theorem lfp (hEV : EV8 G s) (j : Nat) (hj : j < 3) {v : Value} (hn : narrow (tyJ5 j) v = v) (hf : fits (tyJ5 j) v = true) : ∃ cf k i f, s.fieldFound? (TJ5 j).1 (TJ5 j).2.1 (TJ5 j).2.2.1 = some (cf, k, i, f) ∧ f.isStatic = false ∧ f.slot = (gD G).2 190 j ∧ k2_Sd s f ((gD G).1 190) v := by
  have hq : clsR190 ∈ clsT := by simp [clsT]
  obtain ⟨hS, hfc, kC, hkC, hkind⟩ := hEV.2.1.1 clsR190 hq
  obtain ⟨k1, k2, k3⟩ := clsT_ok clsR190 hq
  obtain ⟨cf, kf, fi, fd, hi, hsl⟩ := hS j hj
  have hst := (u_facts (args := #[]) hfc hkC (u_lays (ws := lw_all) (fun w hw => hEV.1.all hw) k1 hj) hi).1
  have hlay := hEV.1.all (A := #[]) (k1 _ (u_in_lay hj))
  unfold u_lay at hlay
  have hff : (clsR190.2.2.1 j).2.2.2 = false := by
    match j, hj with
    | 0, _ => rfl
    | 1, _ => rfl
    | 2, _ => rfl
  rw [if_neg (by rw [hff]; decide)] at hlay
  exact ⟨cf, kf, fi, fd, hi, hst, hsl, u_store hfc hkC hkind hlay hi (k3 j hj) hn hf⟩
theorem l_apart (hEV : EV8 G s) {i j : Nat} (hi : i < 3) (hj : j < 3) (hne : i ≠ j) : (gD G).2 190 i ≠ (gD G).2 190 j := by
  have hq : clsR190 ∈ clsT := by simp [clsT]
  obtain ⟨hS, hfc, kC, hkC, hkind⟩ := hEV.2.1.1 clsR190 hq
  obtain ⟨k1, k2, k3⟩ := clsT_ok clsR190 hq
  obtain ⟨_, _, _, fa, hia, ea⟩ := hS i hi
  obtain ⟨_, _, _, fb, hib, eb⟩ := hS j hj
  have ea : fa.slot = (gD G).2 190 i := ea
  have eb : fb.slot = (gD G).2 190 j := eb
  rw [← ea, ← eb]
  refine u_apart (u_lays (args := #[]) (ws := lw_all) (fun w hw => hEV.1.all hw) k1 hi) (u_lays (args := #[]) (ws := lw_all) (fun w hw => hEV.1.all hw) k1 hj) hia hib ?_
  rw [(State.fieldFound?_type hia (k3 i hi)).1, (State.fieldFound?_type hib (k3 j hj)).1]
  exact k2 i hi j hj hne
theorem xg_E (hexec : p.tables.exec = Jvm.exec) (hb : c.code = cc) (hEV : EV8 G s) (hown : s.vm.findClass "java/util/ArrayList" = some m.cls) {a : Nat} {cell : Cell} {v : Value} (hc : H[a]? = some cell) (hvm : cell.vm = .none) (hs : cell.slots[(gD G).2 190 1]? = some v) (hdg : decode cc pc = .ok (.getfield 9, 3)) (k : W p l e R s m args below meth c H locs cells slots Q (F0 m (pc + 3) ls (v :: rest))) : W p l e R s m args below meth c H locs cells slots Q (F0 m pc ls (.ref a :: rest)) := by
  obtain ⟨cf, kf, fi, fd, f1, f2, f3⟩ := lf hEV 1 (by decide)
  exact W.getf hexec hb hown (hEV.1.all q541) f1 f2 hc (by rw [hvm]; exact fun h => by cases h) (by rw [f3]; exact hs) rfl rfl hdg k
theorem xg_n (hexec : p.tables.exec = Jvm.exec) (hb : c.code = cc) (hEV : EV8 G s) (hown : s.vm.findClass "java/util/ArrayList" = some m.cls) {a : Nat} {cell : Cell} {v : Value} (hc : H[a]? = some cell) (hvm : cell.vm = .none) (hs : cell.slots[(gD G).2 190 2]? = some v) (hdg : decode cc pc = .ok (.getfield 48, 3)) (k : W p l e R s m args below meth c H locs cells slots Q (F0 m (pc + 3) ls (v :: rest))) : W p l e R s m args below meth c H locs cells slots Q (F0 m pc ls (.ref a :: rest)) := by
  obtain ⟨cf, kf, fi, fd, f1, f2, f3⟩ := lf hEV 2 (by decide)
  exact W.getf hexec hb hown (hEV.1.all q542) f1 f2 hc (by rw [hvm]; exact fun h => by cases h) (by rw [f3]; exact hs) rfl rfl hdg k
theorem xg_m (hexec : p.tables.exec = Jvm.exec) (hb : c.code = cc) (hEV : EV8 G s) (hown : s.vm.findClass "java/util/ArrayList" = some m.cls) {a : Nat} {cell : Cell} {v : Value} (hc : H[a]? = some cell) (hvm : cell.vm = .none) (hs : cell.slots[(gD G).2 190 0]? = some v) (hdg : decode cc pc = .ok (.getfield 63, 3)) (k : W p l e R s m args below meth c H locs cells slots Q (F0 m (pc + 3) ls (v :: rest))) : W p l e R s m args below meth c H locs cells slots Q (F0 m pc ls (.ref a :: rest)) := by
  obtain ⟨cf, kf, fi, fd, f1, f2, f3⟩ := lf hEV 0 (by decide)
  exact W.getf hexec hb hown (hEV.1.all q544) (u_same (hEV.1.all q545 (A := args)) _ f1) f2 hc (by rw [hvm]; exact fun h => by cases h) (by rw [f3]; exact hs) rfl rfl hdg k
theorem locs1 {B : Nat} {L : List Loc} {x j : Nat} (hL : ∀ q ∈ L, B ≤ q.base) (hx : B ≤ x) : ∀ q ∈ L ++ [(⟨x, j⟩ : Loc)], B ≤ q.base := by
  intro q hq
  rcases List.mem_append.mp hq with hq | hq
  · exact hL q hq
  · cases List.mem_singleton.mp hq; exact hx
theorem xp_E (hexec : p.tables.exec = Jvm.exec) (hb : c.code = cc) (hEV : EV8 G s) (hown : s.vm.findClass "java/util/ArrayList" = some m.cls) {a b : Nat} {cell : Cell} {w : Value} (hc : H[a]? = some cell) (hvm : cell.vm = .none) (hcl : cell.cls = (gD G).1 190) (hs : cell.slots[(gD G).2 190 1]? = some w) (hL : ∀ q ∈ locs, gB G ≤ q.base) (hB : gB G ≤ a) (hdg : decode cc pc = .ok (.putfield 9, 3))
    (k : ∀ (H' : Heap) (locs' : List Loc), H'[a]? = some (cell.setSlot ((gD G).2 190 1) (.ref b)) → H'.size = H.size → (∀ q, q ≠ a → H'[q]? = H[q]?) → (∀ q ∈ locs', gB G ≤ q.base) → W p l e R s m args below meth c H' locs' cells slots Q (F0 m (pc + 3) ls rest)) : W p l e R s m args below meth c H locs cells slots Q (F0 m pc ls (.ref b :: .ref a :: rest)) := by
  obtain ⟨cf, kf, fi, fd, f1, f2, f3, f4⟩ := lfp hEV 1 (by decide) (v := .ref b) rfl rfl
  exact W.putK hexec hb (f := fd) ⟨hown, hEV.1.all q541, ⟨_, _, _, f1⟩, f2⟩ (by rw [hcl]; exact f4) hc hvm (by rw [f3]; exact k2_hasslot hs) rfl rfl hdg fun H' e1 e2 e3 => k H' _ (by rw [← f3]; exact e1) e2 e3 (locs1 hL hB)
theorem xp_n (hexec : p.tables.exec = Jvm.exec) (hb : c.code = cc) (hEV : EV8 G s) (hown : s.vm.findClass "java/util/ArrayList" = some m.cls) {a : Nat} {b : Int32} {cell : Cell} {w : Value} (hc : H[a]? = some cell) (hvm : cell.vm = .none) (hcl : cell.cls = (gD G).1 190) (hs : cell.slots[(gD G).2 190 2]? = some w) (hL : ∀ q ∈ locs, gB G ≤ q.base) (hB : gB G ≤ a) (hdg : decode cc pc = .ok (.putfield 48, 3))
    (k : ∀ (H' : Heap) (locs' : List Loc), H'[a]? = some (cell.setSlot ((gD G).2 190 2) (.int b)) → H'.size = H.size → (∀ q, q ≠ a → H'[q]? = H[q]?) → (∀ q ∈ locs', gB G ≤ q.base) → W p l e R s m args below meth c H' locs' cells slots Q (F0 m (pc + 3) ls rest)) : W p l e R s m args below meth c H locs cells slots Q (F0 m pc ls (.int b :: .ref a :: rest)) := by
  obtain ⟨cf, kf, fi, fd, f1, f2, f3, f4⟩ := lfp hEV 2 (by decide) (v := .int b) rfl rfl
  exact W.putK hexec hb (f := fd) ⟨hown, hEV.1.all q542, ⟨_, _, _, f1⟩, f2⟩ (by rw [hcl]; exact f4) hc hvm (by rw [f3]; exact k2_hasslot hs) rfl rfl hdg fun H' e1 e2 e3 => k H' _ (by rw [← f3]; exact e1) e2 e3 (locs1 hL hB)
theorem xp_m (hexec : p.tables.exec = Jvm.exec) (hb : c.code = cc) (hEV : EV8 G s) (hown : s.vm.findClass "java/util/ArrayList" = some m.cls) {a : Nat} {b : Int32} {cell : Cell} {w : Value} (hc : H[a]? = some cell) (hvm : cell.vm = .none) (hcl : cell.cls = (gD G).1 190) (hs : cell.slots[(gD G).2 190 0]? = some w) (hL : ∀ q ∈ locs, gB G ≤ q.base) (hB : gB G ≤ a) (hdg : decode cc pc = .ok (.putfield 63, 3))
    (k : ∀ (H' : Heap) (locs' : List Loc), H'[a]? = some (cell.setSlot ((gD G).2 190 0) (.int b)) → H'.size = H.size → (∀ q, q ≠ a → H'[q]? = H[q]?) → (∀ q ∈ locs', gB G ≤ q.base) → W p l e R s m args below meth c H' locs' cells slots Q (F0 m (pc + 3) ls rest)) : W p l e R s m args below meth c H locs cells slots Q (F0 m pc ls (.int b :: .ref a :: rest)) := by
  obtain ⟨cf, kf, fi, fd, f1, f2, f3, f4⟩ := lfp hEV 0 (by decide) (v := .int b) rfl rfl
  exact W.putK hexec hb (f := fd) ⟨hown, hEV.1.all q544, ⟨_, _, _, u_same (hEV.1.all q545 (A := args)) _ f1⟩, f2⟩ (by rw [hcl]; exact f4) hc hvm (by rw [f3]; exact k2_hasslot hs) rfl rfl hdg fun H' e1 e2 e3 => k H' _ (by rw [← f3]; exact e1) e2 e3 (locs1 hL hB)
theorem xp_m0 (hexec : p.tables.exec = Jvm.exec) (hb : c.code = cc) (hEV : EV8 G s) (hown : s.vm.findClass "java/util/AbstractList" = some m.cls) {a : Nat} {b : Int32} {cell : Cell} {w : Value} (hc : H[a]? = some cell) (hvm : cell.vm = .none) (hcl : cell.cls = (gD G).1 190) (hs : cell.slots[(gD G).2 190 0]? = some w) (hL : ∀ q ∈ locs, gB G ≤ q.base) (hB : gB G ≤ a) (hdg : decode cc pc = .ok (.putfield 7, 3))
    (k : ∀ (H' : Heap) (locs' : List Loc), H'[a]? = some (cell.setSlot ((gD G).2 190 0) (.int b)) → H'.size = H.size → (∀ q, q ≠ a → H'[q]? = H[q]?) → (∀ q ∈ locs', gB G ≤ q.base) → W p l e R s m args below meth c H' locs' cells slots Q (F0 m (pc + 3) ls rest)) : W p l e R s m args below meth c H locs cells slots Q (F0 m pc ls (.int b :: .ref a :: rest)) := by
  obtain ⟨cf, kf, fi, fd, f1, f2, f3, f4⟩ := lfp hEV 0 (by decide) (v := .int b) rfl rfl
  exact W.putK hexec hb (f := fd) ⟨hown, hEV.1.all q543, ⟨_, _, _, f1⟩, f2⟩ (by rw [hcl]; exact f4) hc hvm (by rw [f3]; exact k2_hasslot hs) rfl rfl hdg fun H' e1 e2 e3 => k H' _ (by rw [← f3]; exact e1) e2 e3 (locs1 hL hB)
/-- a static that is as it was -/
theorem xg_s (hexec : p.tables.exec = Jvm.exec) (hb : c.code = cc) {C n d ow : String} {index : Nat} {v : Value} (hZ : va_Z C n d v (fun a => ¬ a < gB G) s (gH G)) (hlow : ∀ q, q < gB G → H[q]? = (gH G)[q]?) (hown : s.vm.findClass ow = some m.cls) (hlink : (Cond.fieldLink ow index C n d).before args s = true) (hdg : decode cc pc = .ok (.getstatic index, 3)) (k : W p l e R s m args below meth c H locs cells slots Q (F0 m (pc + 3) ls (v :: rest))) : W p l e R s m args below meth c H locs cells slots Q (F0 m pc ls rest) := by
  obtain ⟨cf, kf, fi, f, a, cell, h1, h2, h3, h4, h5, h6, h7, h8⟩ := hZ
  have ha : a < gB G := Classical.byContradiction h8
  exact W.gets hexec hb hown hlink h1 h2 h3 h4 (by rw [hlow a ha]; exact h5) (fun e => by rw [e] at h6; cases h6) h7 rfl hdg k
end
