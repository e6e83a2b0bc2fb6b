/-! C's host: classes and members -/
set_option maxRecDepth 20000
abbrev HG : Type := (Nat → Nat → Int) × (Nat → Nat → List Int)
theorem u2_e {α : Type} (g : Nat → Nat → α) (i j : Nat) (v : α) (a b : Nat) : u2 g i j v a b = if a = i ∧ b = j then v else g a b := rfl
/-- a name's number among the words -/
def NMO (ws : List (List Int)) (l : List Int) (v : Int) : Prop := ∃ w : Nat, w < ws.length ∧ ws.getD w [] = l ∧ v = (w : Int)
def ftyp : List Nat := [f_HostType_number, f_HostType_name, f_HostType_isInterface, f_HostType_firstMember, f_HostType_above, f_HostType_supers, f_HostType_members, f_HostType_over, f_HostType_words, f_HostType_tags]
def fmem : List Nat := [f_Member_number, f_Member_kind, f_Member_type, f_Member_owner, f_Member_isStatic, f_Member_name, f_Member_parameters, f_Member_variable]
/-- room for static values of a class, and what it holds -/
def SVA (h : ah) (g : HG) (i wo tg : Nat) : Prop := (g.1 10 i = 0 ∧ wo = 0 ∧ tg = 0) ∨ (g.1 10 i = 1 ∧ wo ≠ 0 ∧ tg ≠ 0 ∧ hK h wo = 2 ∧ hK h tg = 3 ∧ (hl h wo : Int) = g.1 4 i ∧ (hl h tg : Int) = g.1 4 i ∧ ∀ k : Nat, (k : Int) < g.1 4 i → hA h wo k = g.1 11 ((g.1 3 i).toNat + k) ∧ hA h tg k = g.1 12 ((g.1 3 i).toNat + k))
def TYO (h : ah) (ho : Nat) (g : HG) (ws : List (List Int)) (i a : Nat) : Prop :=
  (hK h a = k_HostType ∧ a < hz h ∧ a ≠ 0) ∧ hI h f_HostType_number a = (i : Int) ∧ NMO ws (g.2 0 i) (hI h f_HostType_name a) ∧ hI h f_HostType_isInterface a = g.1 1 i ∧ (g.1 1 i = 0 ∨ g.1 1 i = 1) ∧ hI h f_HostType_firstMember a = g.1 3 i ∧ 0 ≤ g.1 3 i ∧
  ((g.1 2 i = -1 ∧ hR h f_HostType_above a = 0) ∨ (0 ≤ g.1 2 i ∧ g.1 2 i < (i : Int) ∧ hR h f_HostType_above a = hB h (ho + 2) (g.1 2 i).toNat)) ∧
  (LSt h (hR h f_HostType_supers a) ∧ hl h (hR h f_HostType_supers a) = (g.2 1 i).length ∧ ∀ k, k < (g.2 1 i).length → 0 ≤ (g.2 1 i).getD k 0 ∧ (g.2 1 i).getD k 0 < (i : Int) ∧ hB h (hR h f_HostType_supers a) k = hB h (ho + 2) ((g.2 1 i).getD k 0).toNat) ∧
  (LSt h (hR h f_HostType_members a) ∧ (hl h (hR h f_HostType_members a) : Int) = g.1 4 i ∧ ∀ k, k < hl h (hR h f_HostType_members a) → hB h (hR h f_HostType_members a) k = hB h (ho + 3) ((g.1 3 i).toNat + k)) ∧
  (hR h f_HostType_over a ≠ 0 ∧ hK h (hR h f_HostType_over a) = 4 ∧ hl h (hR h f_HostType_over a) = 60 ∧ ∀ j, j < 60 → hA h (hR h f_HostType_over a) j = g.1 (100 + i) j ∧ (g.1 (100 + i) j = 0 ∨ g.1 (100 + i) j = 1)) ∧
  SVA h g i (hR h f_HostType_words a) (hR h f_HostType_tags a)
def MEO (h : ah) (ho : Nat) (g : HG) (ws : List (List Int)) (n m a : Nat) : Prop :=
  (hK h a = k_Member ∧ a < hz h ∧ a ≠ 0) ∧ hI h f_Member_number a = (m : Int) ∧ hI h f_Member_kind a = g.1 6 m ∧ (g.1 6 m = 0 ∨ g.1 6 m = 1 ∨ g.1 6 m = 2) ∧ hI h f_Member_type a = g.1 8 m ∧ (0 ≤ g.1 8 m ∧ g.1 8 m < 9 + (n : Int)) ∧ (0 ≤ g.1 5 m ∧ g.1 5 m < (n : Int) ∧ hR h f_Member_owner a = hB h (ho + 2) (g.1 5 m).toNat) ∧
  hI h f_Member_isStatic a = g.1 7 m ∧ (g.1 7 m = 0 ∨ g.1 7 m = 1) ∧ ((g.1 6 m = 2 ∧ g.2 3 m = [] ∧ hI h f_Member_name a = -1) ∨ (¬ g.1 6 m = 2 ∧ NMO ws (g.2 3 m) (hI h f_Member_name a))) ∧ hI h f_Member_variable a = g.1 9 m ∧ (g.1 9 m = 0 ∨ g.1 9 m = 1) ∧
  (hR h f_Member_parameters a ≠ 0 ∧ hR h f_Member_parameters a < hz h ∧ UNO h (hR h f_Member_parameters a) ∧ hK h (hR h f_Member_parameters a) = 1 ∧ hl h (hR h f_Member_parameters a) = (g.2 2 m).length ∧ (g.2 2 m).length ≤ 8 ∧ ∀ k, k < (g.2 2 m).length → hA h (hR h f_Member_parameters a) k = (g.2 2 m).getD k 0)
/-- the fixed parts of a host -/
def HS (ρ : Nat → Nat) (h : ah) (ho : Nat) : Prop := hK h ho = k_Host ∧ ho < hz h ∧ INJ h ∧ hR h f_Host_types ho = ho + 2 ∧ hR h f_Host_members ho = ho + 3 ∧ hR h f_Host_words ho = ho + 4 ∧ LSt h (ho + 2) ∧ LSt h (ho + 3) ∧
  (hR h f_Host_plainWords ho = ho + 1 ∧ ho + 1 < hz h ∧ hK h (ho + 1) = 28 ∧ hl h (ho + 1) = 9 ∧ UNO h (ho + 1) ∧ ∀ i, i < 9 → hB h (ho + 1) i = ρ i) ∧
  (hR h f_Host_draft ho = ho + 10 ∧ hK h (ho + 10) = 1 ∧ hl h (ho + 10) = 8) ∧ (hR h f_Host_meant ho = ho + 11 ∧ LSt h (ho + 11)) ∧ (hR h f_Host_met ho = ho + 12 ∧ hK h (ho + 12) = 4 ∧ hl h (ho + 12) = 60)
def fhos : List Nat := [f_Host_types, f_Host_members, f_Host_words, f_Host_plainWords, f_Host_draft, f_Host_meant, f_Host_met]
def HC (ρ : Nat → Nat) (h : ah) (ho : Nat) (g : HG) (n m : Nat) (ws : List (List Int)) (by_ fr sz nx : Nat) : Prop :=
  HS ρ h ho ∧ hl h (ho + 2) = n ∧ hl h (ho + 3) = m ∧ n ≤ 60 ∧ m ≤ 400 ∧ (∀ i, i < n → TYO h ho g ws i (hB h (ho + 2) i)) ∧ (∀ j, j < m → MEO h ho g ws n j (hB h (ho + 3) j)) ∧ WD h (ho + 4) 512 15360 ws by_ fr sz nx (ho + 9)
section
variable {ρ : Nat → Nat} {L : List Nat} {P : List (Nat × Nat)} {z1 s1 : Nat} {h h' : ah} {ho : Nat} {g g' : HG} {n m : Nat} {ws : List (List Int)} {by_ fr sz nx : Nat}
theorem NMO.app {l v : List Int} {x : Int} (H : NMO ws l x) : NMO (ws ++ [v]) l x := by
  obtain ⟨w, a, b, c⟩ := H
  exact ⟨w, by simp; omega, by rw [app_getD1 (by omega), if_neg (by omega)]; exact b, c⟩
theorem HS.frm (H : HS ρ h ho) (hf : Fr L P z1 s1 h h') (hM : ∀ f, f ∈ fhos → ¬ okW L P f ho) (hP : (0, ho + 1) ∉ P) : HS ρ h' ho := by
  obtain ⟨a1, a2, a3, a4, a5, a6, a7, a8, ⟨b1, b2, b3, b4, b5, b6⟩, ⟨c1, c2, c3⟩, ⟨d1, d2⟩, ⟨e1, e2, e3⟩⟩ := H
  have o1 : ho + 10 < hz h := by rw [← c1]; exact a3.1 _ _ a2 (own_of rfl)
  have o2 : ho + 12 < hz h := by rw [← e1]; exact a3.1 _ _ a2 (own_of rfl)
  have s := hf.ar0 b2 (by omega) hP b5
  have R : ∀ f, f ∈ fhos → 5 ≤ f → hR h' f ho = hR h f ho := fun f hm h5 => hf.R a2 h5 (hM f hm)
  exact ⟨by rw [hf.K a2]; exact a1, hf.lt a2, hf.inj a3, by rw [R _ (by simp [fhos]) (by decide)]; exact a4, by rw [R _ (by simp [fhos]) (by decide)]; exact a5, by rw [R _ (by simp [fhos]) (by decide)]; exact a6, a7.fr hf, a8.fr hf, ⟨by rw [R _ (by simp [fhos]) (by decide)]; exact b1, hf.lt b2, by rw [hf.K b2]; exact b3, by rw [s.1]; exact b4, b5.fr b2 (by omega) hf, fun i hi => by rw [s.2.2]; exact b6 i hi⟩, ⟨by rw [R _ (by simp [fhos]) (by decide)]; exact c1, by rw [hf.K o1]; exact c2, by rw [hf.la o1 (by omega)]; exact c3⟩, ⟨by rw [R _ (by simp [fhos]) (by decide)]; exact d1, d2.fr hf⟩, ⟨by rw [R _ (by simp [fhos]) (by decide)]; exact e1, by rw [hf.K o2]; exact e2, by rw [hf.la o2 (by omega)]; exact e3⟩⟩
/-- a class is not touched: its own fields and lists, and where the others stand -/
theorem TYO.frm {i a : Nat} (H : TYO h ho g ws i a) (hi : INJ h) (hf : Fr L P z1 s1 h h') (hM : ∀ f, f ∈ ftyp → ¬ okC L P f a) (hP : ∀ y, (0, y) ∉ P) (t1 : ∀ k, k < i → hB h' (ho + 2) k = hB h (ho + 2) k) (t2 : ∀ k, k < (g.1 4 i).toNat → hB h' (ho + 3) ((g.1 3 i).toNat + k) = hB h (ho + 3) ((g.1 3 i).toNat + k)) : TYO h' ho g ws i a := by
  obtain ⟨⟨a1, a2, a3⟩, b1, b2, b3, b4, b5, b6, b7, ⟨c1, c2, c3⟩, ⟨d1, d2, d3⟩, ⟨e1, e2, e3, e4⟩, sv⟩ := H
  have hW : ∀ f, f ∈ ftyp → ¬ okW L P f a := fun f hm c => hM f hm (Or.inl c)
  have I : ∀ f, f ∈ ftyp → 5 ≤ f → hI h' f a = hI h f a := fun f hm h5 => hf.I a2 h5 (hW f hm)
  have R : ∀ f, f ∈ ftyp → 5 ≤ f → hR h' f a = hR h f a := fun f hm h5 => hf.R a2 h5 (hW f hm)
  have s1 := hf.ar hi (own_of (f := f_HostType_supers) rfl) a2 rfl c1.2.1 (hM _ (by simp [ftyp])) (hP _)
  have s2 := hf.ar hi (own_of (f := f_HostType_members) rfl) a2 rfl d1.2.1 (hM _ (by simp [ftyp])) (hP _)
  have s3 := hf.ar hi (own_of (f := f_HostType_over) rfl) a2 rfl e1 (hM _ (by simp [ftyp])) (hP _)
  have lo : hR h f_HostType_over a < hz h := hi.1 _ _ a2 (own_of rfl)
  refine ⟨⟨by rw [hf.K a2]; exact a1, hf.lt a2, a3⟩, by rw [I _ (by simp [ftyp]) (by decide)]; exact b1, by rw [I _ (by simp [ftyp]) (by decide)]; exact b2, by rw [I _ (by simp [ftyp]) (by decide)]; exact b3, b4, by rw [I _ (by simp [ftyp]) (by decide)]; exact b5, b6, ?_, ?_, ?_, ?_, ?_⟩
  · rw [R _ (by simp [ftyp]) (by decide)]
    rcases b7 with b7 | b7
    · exact Or.inl b7
    · exact Or.inr ⟨b7.1, b7.2.1, by rw [t1 _ (by omega)]; exact b7.2.2⟩
  · rw [R _ (by simp [ftyp]) (by decide)]
    refine ⟨c1.fr hf, by rw [s1.1]; exact c2, fun k hk => ?_⟩
    obtain ⟨x1, x2, x3⟩ := c3 k hk
    exact ⟨x1, x2, by rw [s1.2.2, t1 _ (by omega)]; exact x3⟩
  · rw [R _ (by simp [ftyp]) (by decide)]
    refine ⟨d1.fr hf, by rw [s2.1]; exact d2, fun k hk => ?_⟩
    rw [s2.1] at hk
    rw [s2.2.2, t2 k (by omega)]
    exact d3 k hk
  · rw [R _ (by simp [ftyp]) (by decide)]
    exact ⟨e1, by rw [hf.K lo]; exact e2, by rw [s3.1]; exact e3, fun j hj => by rw [s3.2.1]; exact e4 j hj⟩
  · rw [R _ (by simp [ftyp]) (by decide), R _ (by simp [ftyp]) (by decide)]
    rcases sv with sv | ⟨x1, x2, x3, x4, x5, x6, x7, x8⟩
    · exact Or.inl sv
    · have y1 := hf.ar hi (own_of (f := f_HostType_words) rfl) a2 rfl x2 (hM _ (by simp [ftyp])) (hP _)
      have y2 := hf.ar hi (own_of (f := f_HostType_tags) rfl) a2 rfl x3 (hM _ (by simp [ftyp])) (hP _)
      have z1 := hi.1 _ _ a2 (own_of (f := f_HostType_words) rfl)
      have z2 := hi.1 _ _ a2 (own_of (f := f_HostType_tags) rfl)
      exact Or.inr ⟨x1, x2, x3, by rw [hf.K z1]; exact x4, by rw [hf.K z2]; exact x5, by rw [y1.1]; exact x6, by rw [y2.1]; exact x7, fun k hk => by rw [y1.2.1, y2.2.1]; exact x8 k hk⟩
theorem MEO.frm {j a : Nat} (H : MEO h ho g ws n j a) (hf : Fr L P z1 s1 h h') (hM : ∀ f, f ∈ fmem → ¬ okW L P f a) (hP : ∀ y, (0, y) ∉ P) (t1 : ∀ k, k < n → hB h' (ho + 2) k = hB h (ho + 2) k) : MEO h' ho g ws n j a := by
  obtain ⟨⟨a1, a2, a3⟩, b1, b2, b3, b4, b5, ⟨b6, b7, b8⟩, c1, c2, c3, c4, c5, ⟨d1, d2, d3, d4, d5, d6, d7⟩⟩ := H
  have I : ∀ f, f ∈ fmem → 5 ≤ f → hI h' f a = hI h f a := fun f hm h5 => hf.I a2 h5 (hM f hm)
  have R : ∀ f, f ∈ fmem → 5 ≤ f → hR h' f a = hR h f a := fun f hm h5 => hf.R a2 h5 (hM f hm)
  have s := hf.ar0 d2 d1 (hP _) d3
  refine ⟨⟨by rw [hf.K a2]; exact a1, hf.lt a2, a3⟩, by rw [I _ (by simp [fmem]) (by decide)]; exact b1, by rw [I _ (by simp [fmem]) (by decide)]; exact b2, b3, by rw [I _ (by simp [fmem]) (by decide)]; exact b4, b5, ⟨b6, b7, by rw [R _ (by simp [fmem]) (by decide), t1 _ (by omega)]; exact b8⟩, by rw [I _ (by simp [fmem]) (by decide)]; exact c1, c2, by rw [I _ (by simp [fmem]) (by decide)]; exact c3, by rw [I _ (by simp [fmem]) (by decide)]; exact c4, c5, ?_⟩
  rw [R _ (by simp [fmem]) (by decide)]
  exact ⟨d1, hf.lt d2, d3.fr d2 d1 hf, by rw [hf.K d2]; exact d4, by rw [s.1]; exact d5, d6, fun k hk => by rw [s.2.1]; exact d7 k hk⟩
/-- the host is not touched -/
def nHC (L : List Nat) (P : List (Nat × Nat)) (ho : Nat) : Prop := ((∀ f, f ∈ ftyp ++ fmem ++ [f_Host_types, f_Host_members] → ∀ a, ¬ okC L P f a) ∧ ∀ f, f ∈ fhos → ¬ okW L P f ho) ∧ (∀ y, (0, y) ∉ P) ∧ ∀ f, f ∈ [f_Words_most, f_Words_mostBytes, f_Words_many, f_Words_used, f_Words_bytes, f_Words_from, f_Words_size, f_Words_next, f_Words_heads] → ¬ okC L P f (ho + 4)
theorem HC.frm (H : HC ρ h ho g n m ws by_ fr sz nx) (hf : Fr L P z1 s1 h h') (hN : nHC L P ho) : HC ρ h' ho g n m ws by_ fr sz nx := by
  obtain ⟨a1, a2, a3, a4, a5, a6, a7, a8⟩ := H
  obtain ⟨⟨n1, n1'⟩, n2, n3⟩ := hN
  have hi := a1.2.2.1
  have s1 := hf.ar hi (own_of (f := f_Host_types) rfl) a1.2.1 a1.2.2.2.1 (by omega) (n1 _ (by simp) _) (n2 _)
  have s2 := hf.ar hi (own_of (f := f_Host_members) rfl) a1.2.1 a1.2.2.2.2.1 (by omega) (n1 _ (by simp) _) (n2 _)
  refine ⟨a1.frm hf n1' (n2 _), by rw [s1.1]; exact a2, by rw [s2.1]; exact a3, a4, a5, fun i hi2 => ?_, fun j hj => ?_, a8.frm hf n3 ⟨n2 _, n2 _, n2 _, n2 _, n2 _⟩⟩
  · rw [s1.2.2]
    exact (a6 i hi2).frm hi hf (fun f hm => n1 f (by simp [hm]) _) n2 (fun k _ => s1.2.2 k) (fun k _ => s2.2.2 _)
  · rw [s2.2.2]
    exact (a7 j hj).frm hf (fun f hm c => n1 f (by simp [hm]) _ (Or.inl c)) n2 (fun k _ => s1.2.2 k)
end
