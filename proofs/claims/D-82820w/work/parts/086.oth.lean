/-! the other host stays -/
set_option maxRecDepth 20000
section
variable {ρ : Nat → Nat} {d : Nat} {h h' : ah} {C ho ho2 T k k2 : Nat} {tp : List Int} {g : HG} {n m : Nat} {ws : List (List Int)} {by_ fr sz nx_ : Nat}
/-- what may be touched at a host's own addresses, and nothing of classes and members -/
theorem HC.frm2 {L : List Nat} {P : List (Nat × Nat)} {z1 s1 : Nat} (H : HC ρ h ho g n m ws by_ fr sz nx_) (hf : Fr L P z1 s1 h h') (n1 : ∀ f, f ∈ ftyp ++ fmem → ∀ a, ¬ okC L P f a) (n1' : ∀ f, f ∈ fhos → ¬ okW L P f ho) (n3 : ¬ okC L P f_Host_types ho ∧ ¬ okC L P f_Host_members ho) (n2 : ∀ y, (0, y) ∉ P) (n4 : ∀ f, f ∈ [f_Words_most, f_Words_mostBytes, f_Words_many, f_Words_used, f_Words_bytes, f_Words_from, f_Words_size, f_Words_next, f_Words_heads] → ¬ okC L P f (ho + 4)) : HC ρ h' ho g n m ws by_ fr sz nx_ := by
  obtain ⟨a1, a2, a3, a4, a5, a6, a7, a8⟩ := H
  have hi := a1.2.2.1
  have s1 := hf.ar hi (own_of (f := f_Host_types) rfl) a1.2.1 a1.2.2.2.1 (by omega) n3.1 (n2 _)
  have s2 := hf.ar hi (own_of (f := f_Host_members) rfl) a1.2.1 a1.2.2.2.2.1 (by omega) n3.2 (n2 _)
  refine ⟨a1.frm hf n1' (n2 _), by rw [s1.1]; exact a2, by rw [s2.1]; exact a3, a4, a5, fun i hi2 => ?_, fun j hj => ?_, a8.frm hf n4 ⟨n2 _, n2 _, n2 _, n2 _, n2 _⟩⟩
  · rw [s1.2.2]
    exact (a6 i hi2).frm hi hf (fun f hm => n1 f (by simp [hm]) _) n2 (fun k _ => s1.2.2 k) (fun k _ => s2.2.2 _)
  · rw [s2.2.2]
    exact (a7 j hj).frm hf (fun f hm c => n1 f (by simp [hm]) _ (Or.inl c)) n2 (fun k _ => s1.2.2 k)
theorem nokP {f x y : Nat} {L : List Nat} {P : List (Nat × Nat)} (h1 : L.elem f = false) (h2 : L.elem (f + 1) = false) (hP : ∀ q, q ∈ P → q.2 = y) (ne : x ≠ y) : ¬ okC L P f x := by
  have a1 : f ∉ L := by simpa using h1
  have a2 : f + 1 ∉ L := by simpa using h2
  rintro ((c | c) | (c | c))
  · exact a1 c
  · exact ne (hP _ c)
  · exact a2 c
  · exact ne (hP _ c)
/-- a host is read: the other one stays -/
theorem HC.oth (H : HC ρ h ho g n m ws by_ fr sz nx_) (fx : FX LHo (PH ho2) h h') (ne : ho ≠ ho2 ∧ ho ≠ ho2 + 4 ∧ ho + 4 ≠ ho2) : HC ρ h' ho g n m ws by_ fr sz nx_ := by
  obtain ⟨z, s, hf⟩ := fx
  have hP : ∀ q, q ∈ PH ho2 → q.2 = ho2 + 4 ∨ q.2 = ho2 := fun q hq => by
    simp only [PH, WP, List.mem_append, List.mem_cons, List.not_mem_nil, or_false] at hq
    rcases hq with (e | e | e | e | e | e | e) | e | e | e <;> subst e <;> simp
  have nw : ∀ f x, LHo.elem f = false → x ≠ ho2 → x ≠ ho2 + 4 → ¬ okW LHo (PH ho2) f x := fun f x h1 h2 h3 c => by
    have a1 : f ∉ LHo := by simpa using h1
    rcases c with c | c
    · exact a1 c
    · rcases hP _ c with e | e
      · exact h3 e
      · exact h2 e
  have nc : ∀ f x, LHo.elem f = false → LHo.elem (f + 1) = false → x ≠ ho2 → x ≠ ho2 + 4 → ¬ okC LHo (PH ho2) f x := fun f x h1 h1' h2 h3 c => c.elim (nw f x h1 h2 h3) (nw (f + 1) x h1' h2 h3)
  refine H.frm2 hf (fun f hm a => nokAll (L := LHo) (P := PH ho2) (fs := ftyp ++ fmem) rfl f hm a) (fun f hm => ?_) ⟨nc _ _ rfl rfl ne.1 ne.2.1, nc _ _ rfl rfl ne.1 ne.2.1⟩ (nP0 rfl) (fun f hm => ?_)
  · have := List.all_eq_true.mp (show fhos.all (fun f => !(LHo.elem f)) = true from rfl) f hm
    simp only [Bool.not_eq_true'] at this
    exact nw f ho this ne.1 ne.2.1
  · have := List.all_eq_true.mp (show [f_Words_most, f_Words_mostBytes, f_Words_many, f_Words_used, f_Words_bytes, f_Words_from, f_Words_size, f_Words_next, f_Words_heads].all (fun f => !(LHo.elem f) && !(LHo.elem (f + 1))) = true from rfl) f hm
    simp only [Bool.and_eq_true, Bool.not_eq_true'] at this
    exact nc f (ho + 4) this.1 this.2 (by omega) (by omega)
theorem THO.oth (H : THO h k g n m tp) (fx : FX LTh (PTq k2) h h') (ne : k ≠ k2) : THO h' k g n m tp := by
  obtain ⟨z, s, hf⟩ := fx
  have hP : ∀ q, q ∈ PTq k2 → q.2 = k2 := fun q hq => by
    simp only [PTq, List.mem_append, List.mem_map, List.mem_cons, List.not_mem_nil, or_false] at hq
    rcases hq with ⟨p, -, e⟩ | e | e <;> subst e <;> rfl
  refine H.frm hf (fun q hq => ?_) ⟨fun c => nokP (f := f_MdHost_classes) (x := k) (y := k2) rfl rfl hP ne (Or.inl c), fun c => nokP (f := f_MdHost_members) (x := k) (y := k2) rfl rfl hP ne (Or.inl c)⟩ (nP0 rfl)
  have := List.all_eq_true.mp (show tabH.all (fun q => !(LTh.elem q.1) && !(LTh.elem (q.1 + 1))) = true from rfl) q hq
  simp only [Bool.and_eq_true, Bool.not_eq_true'] at this
  exact nokP this.1 this.2 hP ne
end
