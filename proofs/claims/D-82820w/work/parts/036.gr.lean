/-! reads behind writes, as grind takes them -/
set_option maxRecDepth 20000
theorem g_hz_sI (h : ah) (f a : Nat) (v : Int) : hz (sI h f a v) = hz h := rfl
grind_pattern g_hz_sI => hz (sI h f a v)
theorem g_hs_sI (h : ah) (f a : Nat) (v : Int) : hs (sI h f a v) = hs h := rfl
grind_pattern g_hs_sI => hs (sI h f a v)
theorem g_hK_sI (h : ah) (f a : Nat) (v : Int) (b : Nat) : hK (sI h f a v) b = hK h b := rfl
grind_pattern g_hK_sI => hK (sI h f a v) b
theorem g_hI_sI (h : ah) (f a : Nat) (v : Int) (g b : Nat) : hI (sI h f a v) g b = if g = f ∧ b = a then v else hI h g b := rfl
grind_pattern g_hI_sI => hI (sI h f a v) g b
theorem g_hR_sI (h : ah) (f a : Nat) (v : Int) (g b : Nat) : hR (sI h f a v) g b = hR h g b := rfl
grind_pattern g_hR_sI => hR (sI h f a v) g b
theorem g_hl_sI (h : ah) (f a : Nat) (v : Int) (b : Nat) : hl (sI h f a v) b = hl h b := rfl
grind_pattern g_hl_sI => hl (sI h f a v) b
theorem g_hA_sI (h : ah) (f a : Nat) (v : Int) (b j : Nat) : hA (sI h f a v) b j = hA h b j := rfl
grind_pattern g_hA_sI => hA (sI h f a v) b j
theorem g_hB_sI (h : ah) (f a : Nat) (v : Int) (b j : Nat) : hB (sI h f a v) b j = hB h b j := rfl
grind_pattern g_hB_sI => hB (sI h f a v) b j
theorem g_hz_sR (h : ah) (f a v : Nat) : hz (sR h f a v) = hz h := rfl
grind_pattern g_hz_sR => hz (sR h f a v)
theorem g_hs_sR (h : ah) (f a v : Nat) : hs (sR h f a v) = hs h := rfl
grind_pattern g_hs_sR => hs (sR h f a v)
theorem g_hK_sR (h : ah) (f a v : Nat) (b : Nat) : hK (sR h f a v) b = hK h b := rfl
grind_pattern g_hK_sR => hK (sR h f a v) b
theorem g_hI_sR (h : ah) (f a v : Nat) (g b : Nat) : hI (sR h f a v) g b = hI h g b := rfl
grind_pattern g_hI_sR => hI (sR h f a v) g b
theorem g_hR_sR (h : ah) (f a v : Nat) (g b : Nat) : hR (sR h f a v) g b = if g = f ∧ b = a then v else hR h g b := rfl
grind_pattern g_hR_sR => hR (sR h f a v) g b
theorem g_hl_sR (h : ah) (f a v : Nat) (b : Nat) : hl (sR h f a v) b = hl h b := rfl
grind_pattern g_hl_sR => hl (sR h f a v) b
theorem g_hA_sR (h : ah) (f a v : Nat) (b j : Nat) : hA (sR h f a v) b j = hA h b j := rfl
grind_pattern g_hA_sR => hA (sR h f a v) b j
theorem g_hB_sR (h : ah) (f a v : Nat) (b j : Nat) : hB (sR h f a v) b j = hB h b j := rfl
grind_pattern g_hB_sR => hB (sR h f a v) b j
theorem g_hz_sA (h : ah) (a i : Nat) (v : Int) : hz (sA h a i v) = hz h := rfl
grind_pattern g_hz_sA => hz (sA h a i v)
theorem g_hs_sA (h : ah) (a i : Nat) (v : Int) : hs (sA h a i v) = hs h := rfl
grind_pattern g_hs_sA => hs (sA h a i v)
theorem g_hK_sA (h : ah) (a i : Nat) (v : Int) (b : Nat) : hK (sA h a i v) b = hK h b := rfl
grind_pattern g_hK_sA => hK (sA h a i v) b
theorem g_hI_sA (h : ah) (a i : Nat) (v : Int) (g b : Nat) : hI (sA h a i v) g b = hI h g b := rfl
grind_pattern g_hI_sA => hI (sA h a i v) g b
theorem g_hR_sA (h : ah) (a i : Nat) (v : Int) (g b : Nat) : hR (sA h a i v) g b = hR h g b := rfl
grind_pattern g_hR_sA => hR (sA h a i v) g b
theorem g_hl_sA (h : ah) (a i : Nat) (v : Int) (b : Nat) : hl (sA h a i v) b = hl h b := rfl
grind_pattern g_hl_sA => hl (sA h a i v) b
theorem g_hA_sA (h : ah) (a i : Nat) (v : Int) (b j : Nat) : hA (sA h a i v) b j = if b = a ∧ j = i then v else hA h b j := rfl
grind_pattern g_hA_sA => hA (sA h a i v) b j
theorem g_hB_sA (h : ah) (a i : Nat) (v : Int) (b j : Nat) : hB (sA h a i v) b j = hB h b j := rfl
grind_pattern g_hB_sA => hB (sA h a i v) b j
theorem g_hz_sB (h : ah) (a i v : Nat) : hz (sB h a i v) = hz h := rfl
grind_pattern g_hz_sB => hz (sB h a i v)
theorem g_hs_sB (h : ah) (a i v : Nat) : hs (sB h a i v) = hs h := rfl
grind_pattern g_hs_sB => hs (sB h a i v)
theorem g_hK_sB (h : ah) (a i v : Nat) (b : Nat) : hK (sB h a i v) b = hK h b := rfl
grind_pattern g_hK_sB => hK (sB h a i v) b
theorem g_hI_sB (h : ah) (a i v : Nat) (g b : Nat) : hI (sB h a i v) g b = hI h g b := rfl
grind_pattern g_hI_sB => hI (sB h a i v) g b
theorem g_hR_sB (h : ah) (a i v : Nat) (g b : Nat) : hR (sB h a i v) g b = hR h g b := rfl
grind_pattern g_hR_sB => hR (sB h a i v) g b
theorem g_hl_sB (h : ah) (a i v : Nat) (b : Nat) : hl (sB h a i v) b = hl h b := rfl
grind_pattern g_hl_sB => hl (sB h a i v) b
theorem g_hA_sB (h : ah) (a i v : Nat) (b j : Nat) : hA (sB h a i v) b j = hA h b j := rfl
grind_pattern g_hA_sB => hA (sB h a i v) b j
theorem g_hB_sB (h : ah) (a i v : Nat) (b j : Nat) : hB (sB h a i v) b j = if b = a ∧ j = i then v else hB h b j := rfl
grind_pattern g_hB_sB => hB (sB h a i v) b j
theorem g_hz_sN (h : ah) (a n : Nat) : hz (sN h a n) = hz h := rfl
grind_pattern g_hz_sN => hz (sN h a n)
theorem g_hs_sN (h : ah) (a n : Nat) : hs (sN h a n) = hs h := rfl
grind_pattern g_hs_sN => hs (sN h a n)
theorem g_hK_sN (h : ah) (a n : Nat) (b : Nat) : hK (sN h a n) b = hK h b := rfl
grind_pattern g_hK_sN => hK (sN h a n) b
theorem g_hI_sN (h : ah) (a n : Nat) (g b : Nat) : hI (sN h a n) g b = hI h g b := rfl
grind_pattern g_hI_sN => hI (sN h a n) g b
theorem g_hR_sN (h : ah) (a n : Nat) (g b : Nat) : hR (sN h a n) g b = hR h g b := rfl
grind_pattern g_hR_sN => hR (sN h a n) g b
theorem g_hl_sN (h : ah) (a n : Nat) (b : Nat) : hl (sN h a n) b = if b = a then n else hl h b := rfl
grind_pattern g_hl_sN => hl (sN h a n) b
theorem g_hA_sN (h : ah) (a n : Nat) (b j : Nat) : hA (sN h a n) b j = hA h b j := rfl
grind_pattern g_hA_sN => hA (sN h a n) b j
theorem g_hB_sN (h : ah) (a n : Nat) (b j : Nat) : hB (sN h a n) b j = hB h b j := rfl
grind_pattern g_hB_sN => hB (sN h a n) b j
theorem g_hz_hn (h : ah) (k n m : Nat) : hz (hn h k n m) = hz h + 1 := rfl
grind_pattern g_hz_hn => hz (hn h k n m)
theorem g_hs_hn (h : ah) (k n m : Nat) : hs (hn h k n m) = hs h + n := rfl
grind_pattern g_hs_hn => hs (hn h k n m)
theorem g_hK_hn (h : ah) (k n m : Nat) (b : Nat) : hK (hn h k n m) b = if b = hz h then k else hK h b := rfl
grind_pattern g_hK_hn => hK (hn h k n m) b
theorem g_hI_hn (h : ah) (k n m : Nat) (g b : Nat) : hI (hn h k n m) g b = if b = hz h then 0 else hI h g b := rfl
grind_pattern g_hI_hn => hI (hn h k n m) g b
theorem g_hR_hn (h : ah) (k n m : Nat) (g b : Nat) : hR (hn h k n m) g b = if b = hz h then 0 else hR h g b := rfl
grind_pattern g_hR_hn => hR (hn h k n m) g b
theorem g_hl_hn (h : ah) (k n m : Nat) (b : Nat) : hl (hn h k n m) b = if b = hz h then m else hl h b := rfl
grind_pattern g_hl_hn => hl (hn h k n m) b
theorem g_hA_hn (h : ah) (k n m : Nat) (b j : Nat) : hA (hn h k n m) b j = if b = hz h then 0 else hA h b j := rfl
grind_pattern g_hA_hn => hA (hn h k n m) b j
theorem g_hB_hn (h : ah) (k n m : Nat) (b j : Nat) : hB (hn h k n m) b j = if b = hz h then 0 else hB h b j := rfl
grind_pattern g_hB_hn => hB (hn h k n m) b j
theorem g_hz_hcp (h : ah) (k a n : Nat) : hz (hcp h k a n) = hz h + 1 := rfl
grind_pattern g_hz_hcp => hz (hcp h k a n)
theorem g_hs_hcp (h : ah) (k a n : Nat) : hs (hcp h k a n) = hs h + n := rfl
grind_pattern g_hs_hcp => hs (hcp h k a n)
theorem g_hK_hcp (h : ah) (k a n : Nat) (b : Nat) : hK (hcp h k a n) b = if b = hz h then k else hK h b := rfl
grind_pattern g_hK_hcp => hK (hcp h k a n) b
theorem g_hI_hcp (h : ah) (k a n : Nat) (g b : Nat) : hI (hcp h k a n) g b = if b = hz h then 0 else hI h g b := rfl
grind_pattern g_hI_hcp => hI (hcp h k a n) g b
theorem g_hR_hcp (h : ah) (k a n : Nat) (g b : Nat) : hR (hcp h k a n) g b = if b = hz h then 0 else hR h g b := rfl
grind_pattern g_hR_hcp => hR (hcp h k a n) g b
theorem g_hl_hcp (h : ah) (k a n : Nat) (b : Nat) : hl (hcp h k a n) b = if b = hz h then n else hl h b := rfl
grind_pattern g_hl_hcp => hl (hcp h k a n) b
theorem g_hA_hcp (h : ah) (k a n : Nat) (b j : Nat) : hA (hcp h k a n) b j = if b = hz h then (if j < hl h a ∧ j < n then hA h a j else 0) else hA h b j := rfl
grind_pattern g_hA_hcp => hA (hcp h k a n) b j
theorem g_hB_hcp (h : ah) (k a n : Nat) (b j : Nat) : hB (hcp h k a n) b j = if b = hz h then 0 else hB h b j := rfl
grind_pattern g_hB_hcp => hB (hcp h k a n) b j
