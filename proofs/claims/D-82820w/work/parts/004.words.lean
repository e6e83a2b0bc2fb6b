set_option maxRecDepth 100000
theorem q4118 : (Jvm.Cond.fieldLink "LinkedTongueModel" (1228 : Nat) "LinkedTongueModel" "\x72" "I") ∈ lw_all := lw_g (lw_at lw_m16 217 rfl) rfl
theorem q4119 : (Jvm.Cond.fieldLink "LinkedTongueModel" (1217 : Nat) "LinkedTongueModel" "goesType" "I") ∈ lw_all := lw_g (lw_at lw_m16 218 rfl) rfl
theorem q4120 : (Jvm.Cond.fieldLink "LinkedTongueModel" (1220 : Nat) "LinkedTongueModel" "goesValue" "J") ∈ lw_all := lw_g (lw_at lw_m16 219 rfl) rfl
theorem q4121 : (Jvm.Cond.fieldLink "LinkedTongueModel" (1235 : Nat) "LinkedTongueModel" "es" "I") ∈ lw_all := lw_g (lw_at lw_m16 220 rfl) rfl
theorem q4122 : (Jvm.Cond.fieldLink "LinkedTongueModel" (1223 : Nat) "LinkedTongueModel" "elementName" "I") ∈ lw_all := lw_g (lw_at lw_m16 221 rfl) rfl
theorem q4123 : (Jvm.Cond.fieldLink "LinkedTongueModel" (357 : Nat) "LinkedTongueModel" "used1" "[Z") ∈ lw_all := lw_g (lw_at lw_m16 222 rfl) rfl
theorem q4124 : (Jvm.Cond.fieldLink "LinkedTongueModel" (360 : Nat) "LinkedTongueModel" "counted" "[I") ∈ lw_all := lw_g (lw_at lw_m16 223 rfl) rfl
theorem q4125 : (Jvm.Cond.lays "LinkedTongueModel" "LinkedTongueModel" "thrown" "I") ∈ lw_all := lw_g (lw_at lw_m16 224 rfl) rfl
theorem q4126 : (Jvm.Cond.soleField "LinkedTongueModel" "thrown") ∈ lw_all := lw_g (lw_at lw_m16 225 rfl) rfl
theorem q4127 : (Jvm.Cond.laysFinal "LinkedTongueModel" "LinkedTongueModel" "halt" "LLinkedTongueModel$Halt;") ∈ lw_all := lw_g (lw_at lw_m16 226 rfl) rfl
theorem q4128 : (Jvm.Cond.soleField "LinkedTongueModel" "halt") ∈ lw_all := lw_g (lw_at lw_m16 227 rfl) rfl
theorem q4129 : (Jvm.Cond.laysFinal "LinkedTongueModel" "LinkedTongueModel" "tape" "[B") ∈ lw_all := lw_g (lw_at lw_m16 228 rfl) rfl
theorem q4130 : (Jvm.Cond.soleField "LinkedTongueModel" "tape") ∈ lw_all := lw_g (lw_at lw_m16 229 rfl) rfl
theorem q4131 : (Jvm.Cond.lays "LinkedTongueModel" "LinkedTongueModel" "taped" "I") ∈ lw_all := lw_g (lw_at lw_m16 230 rfl) rfl
theorem q4132 : (Jvm.Cond.soleField "LinkedTongueModel" "taped") ∈ lw_all := lw_g (lw_at lw_m16 231 rfl) rfl
theorem q4133 : (Jvm.Cond.lays "LinkedTongueModel" "LinkedTongueModel" "size" "I") ∈ lw_all := lw_g (lw_at lw_m16 232 rfl) rfl
theorem q4134 : (Jvm.Cond.soleField "LinkedTongueModel" "size") ∈ lw_all := lw_g (lw_at lw_m16 233 rfl) rfl
theorem q4135 : (Jvm.Cond.lays "LinkedTongueModel" "LinkedTongueModel" "ofHost" "Z") ∈ lw_all := lw_g (lw_at lw_m16 234 rfl) rfl
theorem q4136 : (Jvm.Cond.soleField "LinkedTongueModel" "ofHost") ∈ lw_all := lw_g (lw_at lw_m16 235 rfl) rfl
theorem q4137 : (Jvm.Cond.lays "LinkedTongueModel" "LinkedTongueModel" "token" "I") ∈ lw_all := lw_g (lw_at lw_m16 236 rfl) rfl
theorem q4138 : (Jvm.Cond.soleField "LinkedTongueModel" "token") ∈ lw_all := lw_g (lw_at lw_m16 237 rfl) rfl
theorem q4139 : (Jvm.Cond.lays "LinkedTongueModel" "LinkedTongueModel" "from" "I") ∈ lw_all := lw_g (lw_at lw_m16 238 rfl) rfl
theorem q4140 : (Jvm.Cond.soleField "LinkedTongueModel" "from") ∈ lw_all := lw_g (lw_at lw_m16 239 rfl) rfl
theorem q4141 : (Jvm.Cond.lays "LinkedTongueModel" "LinkedTongueModel" "to" "I") ∈ lw_all := lw_g (lw_at lw_m17 0 rfl) rfl
theorem q4142 : (Jvm.Cond.soleField "LinkedTongueModel" "to") ∈ lw_all := lw_g (lw_at lw_m17 1 rfl) rfl
theorem q4143 : (Jvm.Cond.lays "LinkedTongueModel" "LinkedTongueModel" "sign" "I") ∈ lw_all := lw_g (lw_at lw_m17 2 rfl) rfl
theorem q4144 : (Jvm.Cond.soleField "LinkedTongueModel" "sign") ∈ lw_all := lw_g (lw_at lw_m17 3 rfl) rfl
theorem q4145 : (Jvm.Cond.lays "LinkedTongueModel" "LinkedTongueModel" "number" "I") ∈ lw_all := lw_g (lw_at lw_m17 4 rfl) rfl
theorem q4146 : (Jvm.Cond.soleField "LinkedTongueModel" "number") ∈ lw_all := lw_g (lw_at lw_m17 5 rfl) rfl
theorem q4147 : (Jvm.Cond.laysFinal "LinkedTongueModel" "LinkedTongueModel" "text" "[B") ∈ lw_all := lw_g (lw_at lw_m17 6 rfl) rfl
theorem q4148 : (Jvm.Cond.soleField "LinkedTongueModel" "text") ∈ lw_all := lw_g (lw_at lw_m17 7 rfl) rfl
theorem q4149 : (Jvm.Cond.lays "LinkedTongueModel" "LinkedTongueModel" "textSize" "I") ∈ lw_all := lw_g (lw_at lw_m17 8 rfl) rfl
theorem q4150 : (Jvm.Cond.soleField "LinkedTongueModel" "textSize") ∈ lw_all := lw_g (lw_at lw_m17 9 rfl) rfl
theorem q4151 : (Jvm.Cond.lays "LinkedTongueModel" "LinkedTongueModel" "host" "LLinkedTongueModel$Host;") ∈ lw_all := lw_g (lw_at lw_m17 10 rfl) rfl
theorem q4152 : (Jvm.Cond.soleField "LinkedTongueModel" "host") ∈ lw_all := lw_g (lw_at lw_m17 11 rfl) rfl
theorem q4153 : (Jvm.Cond.lays "LinkedTongueModel" "LinkedTongueModel" "spare" "LLinkedTongueModel$Host;") ∈ lw_all := lw_g (lw_at lw_m17 12 rfl) rfl
theorem q4154 : (Jvm.Cond.soleField "LinkedTongueModel" "spare") ∈ lw_all := lw_g (lw_at lw_m17 13 rfl) rfl
theorem q4155 : (Jvm.Cond.lays "LinkedTongueModel" "LinkedTongueModel" "making" "LLinkedTongueModel$Host;") ∈ lw_all := lw_g (lw_at lw_m17 14 rfl) rfl
theorem q4156 : (Jvm.Cond.soleField "LinkedTongueModel" "making") ∈ lw_all := lw_g (lw_at lw_m17 15 rfl) rfl
theorem q4157 : (Jvm.Cond.lays "LinkedTongueModel" "LinkedTongueModel" "names" "I") ∈ lw_all := lw_g (lw_at lw_m17 16 rfl) rfl
theorem q4158 : (Jvm.Cond.soleField "LinkedTongueModel" "names") ∈ lw_all := lw_g (lw_at lw_m17 17 rfl) rfl
theorem q4159 : (Jvm.Cond.laysFinal "LinkedTongueModel" "LinkedTongueModel" "nameSigns" "[B") ∈ lw_all := lw_g (lw_at lw_m17 18 rfl) rfl
theorem q4160 : (Jvm.Cond.soleField "LinkedTongueModel" "nameSigns") ∈ lw_all := lw_g (lw_at lw_m17 19 rfl) rfl
theorem q4161 : (Jvm.Cond.laysFinal "LinkedTongueModel" "LinkedTongueModel" "nameSize" "[I") ∈ lw_all := lw_g (lw_at lw_m17 20 rfl) rfl
theorem q4162 : (Jvm.Cond.soleField "LinkedTongueModel" "nameSize") ∈ lw_all := lw_g (lw_at lw_m17 21 rfl) rfl
theorem q4163 : (Jvm.Cond.lays "LinkedTongueModel" "LinkedTongueModel" "sourceTexts" "I") ∈ lw_all := lw_g (lw_at lw_m17 22 rfl) rfl
theorem q4164 : (Jvm.Cond.soleField "LinkedTongueModel" "sourceTexts") ∈ lw_all := lw_g (lw_at lw_m17 23 rfl) rfl
theorem q4165 : (Jvm.Cond.lays "LinkedTongueModel" "LinkedTongueModel" "sourceBytes" "I") ∈ lw_all := lw_g (lw_at lw_m17 24 rfl) rfl
theorem q4166 : (Jvm.Cond.soleField "LinkedTongueModel" "sourceBytes") ∈ lw_all := lw_g (lw_at lw_m17 25 rfl) rfl
theorem q4167 : (Jvm.Cond.laysFinal "LinkedTongueModel" "LinkedTongueModel" "textSigns" "[B") ∈ lw_all := lw_g (lw_at lw_m17 26 rfl) rfl
theorem q4168 : (Jvm.Cond.soleField "LinkedTongueModel" "textSigns") ∈ lw_all := lw_g (lw_at lw_m17 27 rfl) rfl
theorem q4169 : (Jvm.Cond.laysFinal "LinkedTongueModel" "LinkedTongueModel" "textFrom" "[I") ∈ lw_all := lw_g (lw_at lw_m17 28 rfl) rfl
theorem q4170 : (Jvm.Cond.soleField "LinkedTongueModel" "textFrom") ∈ lw_all := lw_g (lw_at lw_m17 29 rfl) rfl
theorem q4171 : (Jvm.Cond.laysFinal "LinkedTongueModel" "LinkedTongueModel" "textLength" "[I") ∈ lw_all := lw_g (lw_at lw_m17 30 rfl) rfl
theorem q4172 : (Jvm.Cond.soleField "LinkedTongueModel" "textLength") ∈ lw_all := lw_g (lw_at lw_m17 31 rfl) rfl
theorem q4173 : (Jvm.Cond.laysFinal "LinkedTongueModel" "LinkedTongueModel" "parts" "[LLinkedTongueModel$Part;") ∈ lw_all := lw_g (lw_at lw_m17 32 rfl) rfl
theorem q4174 : (Jvm.Cond.soleField "LinkedTongueModel" "parts") ∈ lw_all := lw_g (lw_at lw_m17 33 rfl) rfl
theorem q4175 : (Jvm.Cond.lays "LinkedTongueModel" "LinkedTongueModel" "partsMade" "I") ∈ lw_all := lw_g (lw_at lw_m17 34 rfl) rfl
theorem q4176 : (Jvm.Cond.soleField "LinkedTongueModel" "partsMade") ∈ lw_all := lw_g (lw_at lw_m17 35 rfl) rfl
theorem q4177 : (Jvm.Cond.lays "LinkedTongueModel" "LinkedTongueModel" "partCount" "I") ∈ lw_all := lw_g (lw_at lw_m17 36 rfl) rfl
theorem q4178 : (Jvm.Cond.soleField "LinkedTongueModel" "partCount") ∈ lw_all := lw_g (lw_at lw_m17 37 rfl) rfl
theorem q4179 : (Jvm.Cond.lays "LinkedTongueModel" "LinkedTongueModel" "current" "I") ∈ lw_all := lw_g (lw_at lw_m17 38 rfl) rfl
theorem q4180 : (Jvm.Cond.soleField "LinkedTongueModel" "current") ∈ lw_all := lw_g (lw_at lw_m17 39 rfl) rfl
theorem q4181 : (Jvm.Cond.lays "LinkedTongueModel" "LinkedTongueModel" "part" "LLinkedTongueModel$Part;") ∈ lw_all := lw_g (lw_at lw_m17 40 rfl) rfl
theorem q4182 : (Jvm.Cond.soleField "LinkedTongueModel" "part") ∈ lw_all := lw_g (lw_at lw_m17 41 rfl) rfl
theorem q4183 : (Jvm.Cond.lays "LinkedTongueModel" "LinkedTongueModel" "depth" "I") ∈ lw_all := lw_g (lw_at lw_m17 42 rfl) rfl
theorem q4184 : (Jvm.Cond.soleField "LinkedTongueModel" "depth") ∈ lw_all := lw_g (lw_at lw_m17 43 rfl) rfl
theorem q4185 : (Jvm.Cond.laysFinal "LinkedTongueModel" "LinkedTongueModel" "newKind" "LLinkedTongueModel$Ints;") ∈ lw_all := lw_g (lw_at lw_m17 44 rfl) rfl
theorem q4186 : (Jvm.Cond.soleField "LinkedTongueModel" "newKind") ∈ lw_all := lw_g (lw_at lw_m17 45 rfl) rfl
theorem q4187 : (Jvm.Cond.laysFinal "LinkedTongueModel" "LinkedTongueModel" "newName" "LLinkedTongueModel$Ints;") ∈ lw_all := lw_g (lw_at lw_m17 46 rfl) rfl
theorem q4188 : (Jvm.Cond.soleField "LinkedTongueModel" "newName") ∈ lw_all := lw_g (lw_at lw_m17 47 rfl) rfl
theorem q4189 : (Jvm.Cond.laysFinal "LinkedTongueModel" "LinkedTongueModel" "newMany" "LLinkedTongueModel$Ints;") ∈ lw_all := lw_g (lw_at lw_m17 48 rfl) rfl
theorem q4190 : (Jvm.Cond.soleField "LinkedTongueModel" "newMany") ∈ lw_all := lw_g (lw_at lw_m17 49 rfl) rfl
theorem q4191 : (Jvm.Cond.lays "LinkedTongueModel" "LinkedTongueModel" "units" "I") ∈ lw_all := lw_g (lw_at lw_m17 50 rfl) rfl
theorem q4192 : (Jvm.Cond.soleField "LinkedTongueModel" "units") ∈ lw_all := lw_g (lw_at lw_m17 51 rfl) rfl
theorem q4193 : (Jvm.Cond.lays "LinkedTongueModel" "LinkedTongueModel" "functions" "I") ∈ lw_all := lw_g (lw_at lw_m17 52 rfl) rfl
theorem q4194 : (Jvm.Cond.soleField "LinkedTongueModel" "functions") ∈ lw_all := lw_g (lw_at lw_m17 53 rfl) rfl
theorem q4195 : (Jvm.Cond.laysFinal "LinkedTongueModel" "LinkedTongueModel" "unitOf" "[I") ∈ lw_all := lw_g (lw_at lw_m17 54 rfl) rfl
theorem q4196 : (Jvm.Cond.soleField "LinkedTongueModel" "unitOf") ∈ lw_all := lw_g (lw_at lw_m17 55 rfl) rfl
theorem q4197 : (Jvm.Cond.laysFinal "LinkedTongueModel" "LinkedTongueModel" "unitFunction" "[I") ∈ lw_all := lw_g (lw_at lw_m17 56 rfl) rfl
theorem q4198 : (Jvm.Cond.soleField "LinkedTongueModel" "unitFunction") ∈ lw_all := lw_g (lw_at lw_m17 57 rfl) rfl
theorem q4199 : (Jvm.Cond.laysFinal "LinkedTongueModel" "LinkedTongueModel" "parametersOf" "[I") ∈ lw_all := lw_g (lw_at lw_m17 58 rfl) rfl
theorem q4200 : (Jvm.Cond.soleField "LinkedTongueModel" "parametersOf") ∈ lw_all := lw_g (lw_at lw_m17 59 rfl) rfl
theorem q4201 : (Jvm.Cond.laysFinal "LinkedTongueModel" "LinkedTongueModel" "variablesOf" "[I") ∈ lw_all := lw_g (lw_at lw_m17 60 rfl) rfl
theorem q4202 : (Jvm.Cond.soleField "LinkedTongueModel" "variablesOf") ∈ lw_all := lw_g (lw_at lw_m17 61 rfl) rfl
theorem q4203 : (Jvm.Cond.laysFinal "LinkedTongueModel" "LinkedTongueModel" "codeFrom" "[I") ∈ lw_all := lw_g (lw_at lw_m17 62 rfl) rfl
theorem q4204 : (Jvm.Cond.soleField "LinkedTongueModel" "codeFrom") ∈ lw_all := lw_g (lw_at lw_m17 63 rfl) rfl
theorem q4205 : (Jvm.Cond.laysFinal "LinkedTongueModel" "LinkedTongueModel" "codeSize" "[I") ∈ lw_all := lw_g (lw_at lw_m17 64 rfl) rfl
theorem q4206 : (Jvm.Cond.soleField "LinkedTongueModel" "codeSize") ∈ lw_all := lw_g (lw_at lw_m17 65 rfl) rfl
theorem q4207 : (Jvm.Cond.laysFinal "LinkedTongueModel" "LinkedTongueModel" "siteFrom" "[I") ∈ lw_all := lw_g (lw_at lw_m17 66 rfl) rfl
theorem q4208 : (Jvm.Cond.soleField "LinkedTongueModel" "siteFrom") ∈ lw_all := lw_g (lw_at lw_m17 67 rfl) rfl
theorem q4209 : (Jvm.Cond.laysFinal "LinkedTongueModel" "LinkedTongueModel" "siteCount" "[I") ∈ lw_all := lw_g (lw_at lw_m17 68 rfl) rfl
theorem q4210 : (Jvm.Cond.soleField "LinkedTongueModel" "siteCount") ∈ lw_all := lw_g (lw_at lw_m17 69 rfl) rfl
theorem q4211 : (Jvm.Cond.lays "LinkedTongueModel" "LinkedTongueModel" "instructions" "I") ∈ lw_all := lw_g (lw_at lw_m17 70 rfl) rfl
theorem q4212 : (Jvm.Cond.soleField "LinkedTongueModel" "instructions") ∈ lw_all := lw_g (lw_at lw_m17 71 rfl) rfl
theorem q4213 : (Jvm.Cond.laysFinal "LinkedTongueModel" "LinkedTongueModel" "codeOp" "[I") ∈ lw_all := lw_g (lw_at lw_m17 72 rfl) rfl
theorem q4214 : (Jvm.Cond.soleField "LinkedTongueModel" "codeOp") ∈ lw_all := lw_g (lw_at lw_m17 73 rfl) rfl
theorem q4215 : (Jvm.Cond.laysFinal "LinkedTongueModel" "LinkedTongueModel" "codeA" "[I") ∈ lw_all := lw_g (lw_at lw_m17 74 rfl) rfl
theorem q4216 : (Jvm.Cond.soleField "LinkedTongueModel" "codeA") ∈ lw_all := lw_g (lw_at lw_m17 75 rfl) rfl
theorem q4217 : (Jvm.Cond.laysFinal "LinkedTongueModel" "LinkedTongueModel" "codeB" "[I") ∈ lw_all := lw_g (lw_at lw_m17 76 rfl) rfl
theorem q4218 : (Jvm.Cond.soleField "LinkedTongueModel" "codeB") ∈ lw_all := lw_g (lw_at lw_m17 77 rfl) rfl
theorem q4219 : (Jvm.Cond.lays "LinkedTongueModel" "LinkedTongueModel" "sites" "I") ∈ lw_all := lw_g (lw_at lw_m17 78 rfl) rfl
theorem q4220 : (Jvm.Cond.soleField "LinkedTongueModel" "sites") ∈ lw_all := lw_g (lw_at lw_m17 79 rfl) rfl
theorem q4221 : (Jvm.Cond.lays "LinkedTongueModel" "LinkedTongueModel" "descriptors" "I") ∈ lw_all := lw_g (lw_at lw_m17 80 rfl) rfl
theorem q4222 : (Jvm.Cond.soleField "LinkedTongueModel" "descriptors") ∈ lw_all := lw_g (lw_at lw_m17 81 rfl) rfl
theorem q4223 : (Jvm.Cond.laysFinal "LinkedTongueModel" "LinkedTongueModel" "siteKind" "[I") ∈ lw_all := lw_g (lw_at lw_m17 82 rfl) rfl
theorem q4224 : (Jvm.Cond.soleField "LinkedTongueModel" "siteKind") ∈ lw_all := lw_g (lw_at lw_m17 83 rfl) rfl
theorem q4225 : (Jvm.Cond.laysFinal "LinkedTongueModel" "LinkedTongueModel" "siteName" "[I") ∈ lw_all := lw_g (lw_at lw_m17 84 rfl) rfl
theorem q4226 : (Jvm.Cond.soleField "LinkedTongueModel" "siteName") ∈ lw_all := lw_g (lw_at lw_m17 85 rfl) rfl
theorem q4227 : (Jvm.Cond.laysFinal "LinkedTongueModel" "LinkedTongueModel" "siteMany" "[I") ∈ lw_all := lw_g (lw_at lw_m17 86 rfl) rfl
theorem q4228 : (Jvm.Cond.soleField "LinkedTongueModel" "siteMany") ∈ lw_all := lw_g (lw_at lw_m17 87 rfl) rfl
theorem q4229 : (Jvm.Cond.laysFinal "LinkedTongueModel" "LinkedTongueModel" "siteFunction" "[I") ∈ lw_all := lw_g (lw_at lw_m17 88 rfl) rfl
theorem q4230 : (Jvm.Cond.soleField "LinkedTongueModel" "siteFunction") ∈ lw_all := lw_g (lw_at lw_m17 89 rfl) rfl
theorem q4231 : (Jvm.Cond.laysFinal "LinkedTongueModel" "LinkedTongueModel" "siteAt" "[I") ∈ lw_all := lw_g (lw_at lw_m17 90 rfl) rfl
theorem q4232 : (Jvm.Cond.soleField "LinkedTongueModel" "siteAt") ∈ lw_all := lw_g (lw_at lw_m17 91 rfl) rfl
theorem q4233 : (Jvm.Cond.laysFinal "LinkedTongueModel" "LinkedTongueModel" "descriptor" "[I") ∈ lw_all := lw_g (lw_at lw_m17 92 rfl) rfl
theorem q4234 : (Jvm.Cond.soleField "LinkedTongueModel" "descriptor") ∈ lw_all := lw_g (lw_at lw_m17 93 rfl) rfl
theorem q4235 : (Jvm.Cond.laysFinal "LinkedTongueModel" "LinkedTongueModel" "links" "[I") ∈ lw_all := lw_g (lw_at lw_m17 94 rfl) rfl
theorem q4236 : (Jvm.Cond.soleField "LinkedTongueModel" "links") ∈ lw_all := lw_g (lw_at lw_m17 95 rfl) rfl
theorem q4237 : (Jvm.Cond.laysFinal "LinkedTongueModel" "LinkedTongueModel" "hits" "[I") ∈ lw_all := lw_g (lw_at lw_m17 96 rfl) rfl
theorem q4238 : (Jvm.Cond.soleField "LinkedTongueModel" "hits") ∈ lw_all := lw_g (lw_at lw_m17 97 rfl) rfl
theorem q4239 : (Jvm.Cond.laysFinal "LinkedTongueModel" "LinkedTongueModel" "pruned" "[I") ∈ lw_all := lw_g (lw_at lw_m17 98 rfl) rfl
theorem q4240 : (Jvm.Cond.soleField "LinkedTongueModel" "pruned") ∈ lw_all := lw_g (lw_at lw_m17 99 rfl) rfl
theorem q4241 : (Jvm.Cond.laysFinal "LinkedTongueModel" "LinkedTongueModel" "isMega" "[Z") ∈ lw_all := lw_g (lw_at lw_m17 100 rfl) rfl
theorem q4242 : (Jvm.Cond.soleField "LinkedTongueModel" "isMega") ∈ lw_all := lw_g (lw_at lw_m17 101 rfl) rfl
theorem q4243 : (Jvm.Cond.lays "LinkedTongueModel" "LinkedTongueModel" "emitted" "I") ∈ lw_all := lw_g (lw_at lw_m17 102 rfl) rfl
theorem q4244 : (Jvm.Cond.soleField "LinkedTongueModel" "emitted") ∈ lw_all := lw_g (lw_at lw_m17 103 rfl) rfl
theorem q4245 : (Jvm.Cond.lays "LinkedTongueModel" "LinkedTongueModel" "lastName" "I") ∈ lw_all := lw_g (lw_at lw_m17 104 rfl) rfl
theorem q4246 : (Jvm.Cond.soleField "LinkedTongueModel" "lastName") ∈ lw_all := lw_g (lw_at lw_m17 105 rfl) rfl
theorem q4247 : (Jvm.Cond.lays "LinkedTongueModel" "LinkedTongueModel" "lastSiteName" "I") ∈ lw_all := lw_g (lw_at lw_m17 106 rfl) rfl
theorem q4248 : (Jvm.Cond.soleField "LinkedTongueModel" "lastSiteName") ∈ lw_all := lw_g (lw_at lw_m17 107 rfl) rfl
theorem q4249 : (Jvm.Cond.lays "LinkedTongueModel" "LinkedTongueModel" "allMade" "I") ∈ lw_all := lw_g (lw_at lw_m17 108 rfl) rfl
theorem q4250 : (Jvm.Cond.soleField "LinkedTongueModel" "allMade") ∈ lw_all := lw_g (lw_at lw_m17 109 rfl) rfl
theorem q4251 : (Jvm.Cond.lays "LinkedTongueModel" "LinkedTongueModel" "allSlots" "I") ∈ lw_all := lw_g (lw_at lw_m17 110 rfl) rfl
theorem q4252 : (Jvm.Cond.soleField "LinkedTongueModel" "allSlots") ∈ lw_all := lw_g (lw_at lw_m17 111 rfl) rfl
theorem q4253 : (Jvm.Cond.lays "LinkedTongueModel" "LinkedTongueModel" "allTexts" "I") ∈ lw_all := lw_g (lw_at lw_m17 112 rfl) rfl
theorem q4254 : (Jvm.Cond.soleField "LinkedTongueModel" "allTexts") ∈ lw_all := lw_g (lw_at lw_m17 113 rfl) rfl
theorem q4255 : (Jvm.Cond.lays "LinkedTongueModel" "LinkedTongueModel" "allBytes" "I") ∈ lw_all := lw_g (lw_at lw_m17 114 rfl) rfl
theorem q4256 : (Jvm.Cond.soleField "LinkedTongueModel" "allBytes") ∈ lw_all := lw_g (lw_at lw_m17 115 rfl) rfl
theorem q4257 : (Jvm.Cond.lays "LinkedTongueModel" "LinkedTongueModel" "allShapes" "I") ∈ lw_all := lw_g (lw_at lw_m17 116 rfl) rfl
theorem q4258 : (Jvm.Cond.soleField "LinkedTongueModel" "allShapes") ∈ lw_all := lw_g (lw_at lw_m17 117 rfl) rfl
theorem q4259 : (Jvm.Cond.lays "LinkedTongueModel" "LinkedTongueModel" "allChoices" "I") ∈ lw_all := lw_g (lw_at lw_m17 118 rfl) rfl
theorem q4260 : (Jvm.Cond.soleField "LinkedTongueModel" "allChoices") ∈ lw_all := lw_g (lw_at lw_m17 119 rfl) rfl
theorem q4261 : (Jvm.Cond.lays "LinkedTongueModel" "LinkedTongueModel" "things" "I") ∈ lw_all := lw_g (lw_at lw_m17 120 rfl) rfl
theorem q4262 : (Jvm.Cond.soleField "LinkedTongueModel" "things") ∈ lw_all := lw_g (lw_at lw_m17 121 rfl) rfl
theorem q4263 : (Jvm.Cond.lays "LinkedTongueModel" "LinkedTongueModel" "calls" "I") ∈ lw_all := lw_g (lw_at lw_m17 122 rfl) rfl
theorem q4264 : (Jvm.Cond.soleField "LinkedTongueModel" "calls") ∈ lw_all := lw_g (lw_at lw_m17 123 rfl) rfl
theorem q4265 : (Jvm.Cond.laysFinal "LinkedTongueModel" "LinkedTongueModel" "thingKind" "[I") ∈ lw_all := lw_g (lw_at lw_m17 124 rfl) rfl
theorem q4266 : (Jvm.Cond.soleField "LinkedTongueModel" "thingKind") ∈ lw_all := lw_g (lw_at lw_m17 125 rfl) rfl
theorem q4267 : (Jvm.Cond.laysFinal "LinkedTongueModel" "LinkedTongueModel" "thingShape" "[I") ∈ lw_all := lw_g (lw_at lw_m17 126 rfl) rfl
theorem q4268 : (Jvm.Cond.soleField "LinkedTongueModel" "thingShape") ∈ lw_all := lw_g (lw_at lw_m17 127 rfl) rfl
theorem q4269 : (Jvm.Cond.laysFinal "LinkedTongueModel" "LinkedTongueModel" "thingFirst" "[I") ∈ lw_all := lw_g (lw_at lw_m17 128 rfl) rfl
theorem q4270 : (Jvm.Cond.soleField "LinkedTongueModel" "thingFirst") ∈ lw_all := lw_g (lw_at lw_m17 129 rfl) rfl
theorem q4271 : (Jvm.Cond.laysFinal "LinkedTongueModel" "LinkedTongueModel" "thingCount" "[I") ∈ lw_all := lw_g (lw_at lw_m17 130 rfl) rfl
theorem q4272 : (Jvm.Cond.soleField "LinkedTongueModel" "thingCount") ∈ lw_all := lw_g (lw_at lw_m17 131 rfl) rfl
theorem q4273 : (Jvm.Cond.laysFinal "LinkedTongueModel" "LinkedTongueModel" "thingLast" "[I") ∈ lw_all := lw_g (lw_at lw_m17 132 rfl) rfl
theorem q4274 : (Jvm.Cond.soleField "LinkedTongueModel" "thingLast") ∈ lw_all := lw_g (lw_at lw_m17 133 rfl) rfl
theorem q4275 : (Jvm.Cond.laysFinal "LinkedTongueModel" "LinkedTongueModel" "thingFunction" "[I") ∈ lw_all := lw_g (lw_at lw_m17 134 rfl) rfl
theorem q4276 : (Jvm.Cond.soleField "LinkedTongueModel" "thingFunction") ∈ lw_all := lw_g (lw_at lw_m17 135 rfl) rfl
theorem q4277 : (Jvm.Cond.laysFinal "LinkedTongueModel" "LinkedTongueModel" "thingAround" "[I") ∈ lw_all := lw_g (lw_at lw_m17 136 rfl) rfl
theorem q4278 : (Jvm.Cond.soleField "LinkedTongueModel" "thingAround") ∈ lw_all := lw_g (lw_at lw_m17 137 rfl) rfl
theorem q4279 : (Jvm.Cond.laysFinal "LinkedTongueModel" "LinkedTongueModel" "thingClass" "[I") ∈ lw_all := lw_g (lw_at lw_m17 138 rfl) rfl
theorem q4280 : (Jvm.Cond.soleField "LinkedTongueModel" "thingClass") ∈ lw_all := lw_g (lw_at lw_m17 139 rfl) rfl
theorem q4281 : (Jvm.Cond.laysFinal "LinkedTongueModel" "LinkedTongueModel" "isWatched" "[Z") ∈ lw_all := lw_g (lw_at lw_m17 140 rfl) rfl
theorem q4282 : (Jvm.Cond.soleField "LinkedTongueModel" "isWatched") ∈ lw_all := lw_g (lw_at lw_m17 141 rfl) rfl
theorem q4283 : (Jvm.Cond.laysFinal "LinkedTongueModel" "LinkedTongueModel" "epoch" "[I") ∈ lw_all := lw_g (lw_at lw_m17 142 rfl) rfl
theorem q4284 : (Jvm.Cond.soleField "LinkedTongueModel" "epoch") ∈ lw_all := lw_g (lw_at lw_m17 143 rfl) rfl
theorem q4285 : (Jvm.Cond.laysFinal "LinkedTongueModel" "LinkedTongueModel" "changedAt" "[I") ∈ lw_all := lw_g (lw_at lw_m17 144 rfl) rfl
theorem q4286 : (Jvm.Cond.soleField "LinkedTongueModel" "changedAt") ∈ lw_all := lw_g (lw_at lw_m17 145 rfl) rfl
theorem q4287 : (Jvm.Cond.lays "LinkedTongueModel" "LinkedTongueModel" "changes" "I") ∈ lw_all := lw_g (lw_at lw_m17 146 rfl) rfl
theorem q4288 : (Jvm.Cond.soleField "LinkedTongueModel" "changes") ∈ lw_all := lw_g (lw_at lw_m17 147 rfl) rfl
theorem q4289 : (Jvm.Cond.lays "LinkedTongueModel" "LinkedTongueModel" "slots" "I") ∈ lw_all := lw_g (lw_at lw_m17 148 rfl) rfl
theorem q4290 : (Jvm.Cond.soleField "LinkedTongueModel" "slots") ∈ lw_all := lw_g (lw_at lw_m17 149 rfl) rfl
theorem q4291 : (Jvm.Cond.laysFinal "LinkedTongueModel" "LinkedTongueModel" "slotType" "[I") ∈ lw_all := lw_g (lw_at lw_m17 150 rfl) rfl
theorem q4292 : (Jvm.Cond.soleField "LinkedTongueModel" "slotType") ∈ lw_all := lw_g (lw_at lw_m17 151 rfl) rfl
theorem q4293 : (Jvm.Cond.laysFinal "LinkedTongueModel" "LinkedTongueModel" "slotValue" "[J") ∈ lw_all := lw_g (lw_at lw_m17 152 rfl) rfl
theorem q4294 : (Jvm.Cond.soleField "LinkedTongueModel" "slotValue") ∈ lw_all := lw_g (lw_at lw_m17 153 rfl) rfl
theorem q4295 : (Jvm.Cond.laysFinal "LinkedTongueModel" "LinkedTongueModel" "slotName" "[I") ∈ lw_all := lw_g (lw_at lw_m17 154 rfl) rfl
theorem q4296 : (Jvm.Cond.soleField "LinkedTongueModel" "slotName") ∈ lw_all := lw_g (lw_at lw_m17 155 rfl) rfl
theorem q4297 : (Jvm.Cond.laysFinal "LinkedTongueModel" "LinkedTongueModel" "slotNext" "[I") ∈ lw_all := lw_g (lw_at lw_m17 156 rfl) rfl
theorem q4298 : (Jvm.Cond.soleField "LinkedTongueModel" "slotNext") ∈ lw_all := lw_g (lw_at lw_m17 157 rfl) rfl
theorem q4299 : (Jvm.Cond.lays "LinkedTongueModel" "LinkedTongueModel" "shapes" "I") ∈ lw_all := lw_g (lw_at lw_m17 158 rfl) rfl
theorem q4300 : (Jvm.Cond.soleField "LinkedTongueModel" "shapes") ∈ lw_all := lw_g (lw_at lw_m17 159 rfl) rfl
theorem q4301 : (Jvm.Cond.laysFinal "LinkedTongueModel" "LinkedTongueModel" "shapeProto" "[I") ∈ lw_all := lw_g (lw_at lw_m17 160 rfl) rfl
theorem q4302 : (Jvm.Cond.soleField "LinkedTongueModel" "shapeProto") ∈ lw_all := lw_g (lw_at lw_m17 161 rfl) rfl
theorem q4303 : (Jvm.Cond.laysFinal "LinkedTongueModel" "LinkedTongueModel" "shapeBefore" "[I") ∈ lw_all := lw_g (lw_at lw_m17 162 rfl) rfl
theorem q4304 : (Jvm.Cond.soleField "LinkedTongueModel" "shapeBefore") ∈ lw_all := lw_g (lw_at lw_m17 163 rfl) rfl
theorem q4305 : (Jvm.Cond.laysFinal "LinkedTongueModel" "LinkedTongueModel" "shapeName" "[I") ∈ lw_all := lw_g (lw_at lw_m17 164 rfl) rfl
theorem q4306 : (Jvm.Cond.soleField "LinkedTongueModel" "shapeName") ∈ lw_all := lw_g (lw_at lw_m17 165 rfl) rfl
theorem q4307 : (Jvm.Cond.laysFinal "LinkedTongueModel" "LinkedTongueModel" "shapeCount" "[I") ∈ lw_all := lw_g (lw_at lw_m17 166 rfl) rfl
theorem q4308 : (Jvm.Cond.soleField "LinkedTongueModel" "shapeCount") ∈ lw_all := lw_g (lw_at lw_m17 167 rfl) rfl
theorem q4309 : (Jvm.Cond.laysFinal "LinkedTongueModel" "LinkedTongueModel" "around" "[I") ∈ lw_all := lw_g (lw_at lw_m17 168 rfl) rfl
theorem q4310 : (Jvm.Cond.soleField "LinkedTongueModel" "around") ∈ lw_all := lw_g (lw_at lw_m17 169 rfl) rfl
theorem q4311 : (Jvm.Cond.laysFinal "LinkedTongueModel" "LinkedTongueModel" "variablesFrom" "[I") ∈ lw_all := lw_g (lw_at lw_m17 170 rfl) rfl
theorem q4312 : (Jvm.Cond.soleField "LinkedTongueModel" "variablesFrom") ∈ lw_all := lw_g (lw_at lw_m17 171 rfl) rfl
theorem q4313 : (Jvm.Cond.lays "LinkedTongueModel" "LinkedTongueModel" "variables" "I") ∈ lw_all := lw_g (lw_at lw_m17 172 rfl) rfl
theorem q4314 : (Jvm.Cond.soleField "LinkedTongueModel" "variables") ∈ lw_all := lw_g (lw_at lw_m17 173 rfl) rfl
theorem q4315 : (Jvm.Cond.laysFinal "LinkedTongueModel" "LinkedTongueModel" "variableTypes" "[I") ∈ lw_all := lw_g (lw_at lw_m17 174 rfl) rfl
theorem q4316 : (Jvm.Cond.soleField "LinkedTongueModel" "variableTypes") ∈ lw_all := lw_g (lw_at lw_m17 175 rfl) rfl
theorem q4317 : (Jvm.Cond.laysFinal "LinkedTongueModel" "LinkedTongueModel" "variableValue" "[J") ∈ lw_all := lw_g (lw_at lw_m17 176 rfl) rfl
theorem q4318 : (Jvm.Cond.soleField "LinkedTongueModel" "variableValue") ∈ lw_all := lw_g (lw_at lw_m17 177 rfl) rfl
theorem q4319 : (Jvm.Cond.laysFinal "LinkedTongueModel" "LinkedTongueModel" "isGlobal" "[Z") ∈ lw_all := lw_g (lw_at lw_m17 178 rfl) rfl
theorem q4320 : (Jvm.Cond.soleField "LinkedTongueModel" "isGlobal") ∈ lw_all := lw_g (lw_at lw_m17 179 rfl) rfl
theorem q4321 : (Jvm.Cond.laysFinal "LinkedTongueModel" "LinkedTongueModel" "globalType" "[I") ∈ lw_all := lw_g (lw_at lw_m17 180 rfl) rfl
theorem q4322 : (Jvm.Cond.soleField "LinkedTongueModel" "globalType") ∈ lw_all := lw_g (lw_at lw_m17 181 rfl) rfl
theorem q4323 : (Jvm.Cond.laysFinal "LinkedTongueModel" "LinkedTongueModel" "globalValue" "[J") ∈ lw_all := lw_g (lw_at lw_m17 182 rfl) rfl
theorem q4324 : (Jvm.Cond.soleField "LinkedTongueModel" "globalValue") ∈ lw_all := lw_g (lw_at lw_m17 183 rfl) rfl
theorem q4325 : (Jvm.Cond.laysFinal "LinkedTongueModel" "LinkedTongueModel" "staticType" "[I") ∈ lw_all := lw_g (lw_at lw_m17 184 rfl) rfl
theorem q4326 : (Jvm.Cond.soleField "LinkedTongueModel" "staticType") ∈ lw_all := lw_g (lw_at lw_m17 185 rfl) rfl
theorem q4327 : (Jvm.Cond.laysFinal "LinkedTongueModel" "LinkedTongueModel" "staticValue" "[J") ∈ lw_all := lw_g (lw_at lw_m17 186 rfl) rfl
theorem q4328 : (Jvm.Cond.soleField "LinkedTongueModel" "staticValue") ∈ lw_all := lw_g (lw_at lw_m17 187 rfl) rfl
theorem q4329 : (Jvm.Cond.lays "LinkedTongueModel" "LinkedTongueModel" "madeTexts" "I") ∈ lw_all := lw_g (lw_at lw_m17 188 rfl) rfl
theorem q4330 : (Jvm.Cond.soleField "LinkedTongueModel" "madeTexts") ∈ lw_all := lw_g (lw_at lw_m17 189 rfl) rfl
theorem q4331 : (Jvm.Cond.lays "LinkedTongueModel" "LinkedTongueModel" "madeBytes" "I") ∈ lw_all := lw_g (lw_at lw_m17 190 rfl) rfl
theorem q4332 : (Jvm.Cond.soleField "LinkedTongueModel" "madeBytes") ∈ lw_all := lw_g (lw_at lw_m17 191 rfl) rfl
theorem q4333 : (Jvm.Cond.lays "LinkedTongueModel" "LinkedTongueModel" "shown" "I") ∈ lw_all := lw_g (lw_at lw_m17 192 rfl) rfl
theorem q4334 : (Jvm.Cond.soleField "LinkedTongueModel" "shown") ∈ lw_all := lw_g (lw_at lw_m17 193 rfl) rfl
theorem q4335 : (Jvm.Cond.laysFinal "LinkedTongueModel" "LinkedTongueModel" "output" "[B") ∈ lw_all := lw_g (lw_at lw_m17 194 rfl) rfl
theorem q4336 : (Jvm.Cond.soleField "LinkedTongueModel" "output") ∈ lw_all := lw_g (lw_at lw_m17 195 rfl) rfl
theorem q4337 : (Jvm.Cond.lays "LinkedTongueModel" "LinkedTongueModel" "traced" "I") ∈ lw_all := lw_g (lw_at lw_m17 196 rfl) rfl
theorem q4338 : (Jvm.Cond.soleField "LinkedTongueModel" "traced") ∈ lw_all := lw_g (lw_at lw_m17 197 rfl) rfl
theorem q4339 : (Jvm.Cond.laysFinal "LinkedTongueModel" "LinkedTongueModel" "trace" "[I") ∈ lw_all := lw_g (lw_at lw_m17 198 rfl) rfl
theorem q4340 : (Jvm.Cond.soleField "LinkedTongueModel" "trace") ∈ lw_all := lw_g (lw_at lw_m17 199 rfl) rfl
theorem q4341 : (Jvm.Cond.lays "LinkedTongueModel" "LinkedTongueModel" "wrong" "I") ∈ lw_all := lw_g (lw_at lw_m17 200 rfl) rfl
theorem q4342 : (Jvm.Cond.soleField "LinkedTongueModel" "wrong") ∈ lw_all := lw_g (lw_at lw_m17 201 rfl) rfl
theorem q4343 : (Jvm.Cond.laysFinal "LinkedTongueModel" "LinkedTongueModel" "asked" "[I") ∈ lw_all := lw_g (lw_at lw_m17 202 rfl) rfl
theorem q4344 : (Jvm.Cond.soleField "LinkedTongueModel" "asked") ∈ lw_all := lw_g (lw_at lw_m17 203 rfl) rfl
theorem q4345 : (Jvm.Cond.lays "LinkedTongueModel" "LinkedTongueModel" "type" "I") ∈ lw_all := lw_g (lw_at lw_m17 204 rfl) rfl
theorem q4346 : (Jvm.Cond.soleField "LinkedTongueModel" "type") ∈ lw_all := lw_g (lw_at lw_m17 205 rfl) rfl
theorem q4347 : (Jvm.Cond.lays "LinkedTongueModel" "LinkedTongueModel" "value" "J") ∈ lw_all := lw_g (lw_at lw_m17 206 rfl) rfl
theorem q4348 : (Jvm.Cond.soleField "LinkedTongueModel" "value") ∈ lw_all := lw_g (lw_at lw_m17 207 rfl) rfl
theorem q4349 : (Jvm.Cond.laysFinal "LinkedTongueModel" "LinkedTongueModel" "spelt" "[B") ∈ lw_all := lw_g (lw_at lw_m17 208 rfl) rfl
theorem q4350 : (Jvm.Cond.soleField "LinkedTongueModel" "spelt") ∈ lw_all := lw_g (lw_at lw_m17 209 rfl) rfl
theorem q4351 : (Jvm.Cond.lays "LinkedTongueModel" "LinkedTongueModel" "spelling" "I") ∈ lw_all := lw_g (lw_at lw_m17 210 rfl) rfl
theorem q4352 : (Jvm.Cond.soleField "LinkedTongueModel" "spelling") ∈ lw_all := lw_g (lw_at lw_m17 211 rfl) rfl
theorem q4353 : (Jvm.Cond.lays "LinkedTongueModel" "LinkedTongueModel" "choices" "I") ∈ lw_all := lw_g (lw_at lw_m17 212 rfl) rfl
theorem q4354 : (Jvm.Cond.soleField "LinkedTongueModel" "choices") ∈ lw_all := lw_g (lw_at lw_m17 213 rfl) rfl
theorem q4355 : (Jvm.Cond.lays "LinkedTongueModel" "LinkedTongueModel" "workedOut" "I") ∈ lw_all := lw_g (lw_at lw_m17 214 rfl) rfl
theorem q4356 : (Jvm.Cond.soleField "LinkedTongueModel" "workedOut") ∈ lw_all := lw_g (lw_at lw_m17 215 rfl) rfl
theorem q4357 : (Jvm.Cond.laysFinal "LinkedTongueModel" "LinkedTongueModel" "choiceClass" "[I") ∈ lw_all := lw_g (lw_at lw_m17 216 rfl) rfl
theorem q4358 : (Jvm.Cond.soleField "LinkedTongueModel" "choiceClass") ∈ lw_all := lw_g (lw_at lw_m17 217 rfl) rfl
theorem q4359 : (Jvm.Cond.laysFinal "LinkedTongueModel" "LinkedTongueModel" "choiceMode" "[I") ∈ lw_all := lw_g (lw_at lw_m17 218 rfl) rfl
theorem q4360 : (Jvm.Cond.soleField "LinkedTongueModel" "choiceMode") ∈ lw_all := lw_g (lw_at lw_m17 219 rfl) rfl
theorem q4361 : (Jvm.Cond.laysFinal "LinkedTongueModel" "LinkedTongueModel" "choiceName" "[I") ∈ lw_all := lw_g (lw_at lw_m17 220 rfl) rfl
theorem q4362 : (Jvm.Cond.soleField "LinkedTongueModel" "choiceName") ∈ lw_all := lw_g (lw_at lw_m17 221 rfl) rfl
theorem q4363 : (Jvm.Cond.laysFinal "LinkedTongueModel" "LinkedTongueModel" "choiceMany" "[I") ∈ lw_all := lw_g (lw_at lw_m17 222 rfl) rfl
theorem q4364 : (Jvm.Cond.soleField "LinkedTongueModel" "choiceMany") ∈ lw_all := lw_g (lw_at lw_m17 223 rfl) rfl
theorem q4365 : (Jvm.Cond.laysFinal "LinkedTongueModel" "LinkedTongueModel" "choiceTypes" "[I") ∈ lw_all := lw_g (lw_at lw_m17 224 rfl) rfl
theorem q4366 : (Jvm.Cond.soleField "LinkedTongueModel" "choiceTypes") ∈ lw_all := lw_g (lw_at lw_m17 225 rfl) rfl
theorem q4367 : (Jvm.Cond.laysFinal "LinkedTongueModel" "LinkedTongueModel" "choiceFound" "[I") ∈ lw_all := lw_g (lw_at lw_m17 226 rfl) rfl
theorem q4368 : (Jvm.Cond.soleField "LinkedTongueModel" "choiceFound") ∈ lw_all := lw_g (lw_at lw_m17 227 rfl) rfl
theorem q4369 : (Jvm.Cond.lays "LinkedTongueModel" "LinkedTongueModel" "many" "I") ∈ lw_all := lw_g (lw_at lw_m17 228 rfl) rfl
theorem q4370 : (Jvm.Cond.soleField "LinkedTongueModel" "many") ∈ lw_all := lw_g (lw_at lw_m17 229 rfl) rfl
theorem q4371 : (Jvm.Cond.laysFinal "LinkedTongueModel" "LinkedTongueModel" "types" "[I") ∈ lw_all := lw_g (lw_at lw_m17 230 rfl) rfl
theorem q4372 : (Jvm.Cond.soleField "LinkedTongueModel" "types") ∈ lw_all := lw_g (lw_at lw_m17 231 rfl) rfl
theorem q4373 : (Jvm.Cond.lays "LinkedTongueModel" "LinkedTongueModel" "ordered" "I") ∈ lw_all := lw_g (lw_at lw_m17 232 rfl) rfl
theorem q4374 : (Jvm.Cond.soleField "LinkedTongueModel" "ordered") ∈ lw_all := lw_g (lw_at lw_m17 233 rfl) rfl
theorem q4375 : (Jvm.Cond.laysFinal "LinkedTongueModel" "LinkedTongueModel" "order" "[I") ∈ lw_all := lw_g (lw_at lw_m17 234 rfl) rfl
theorem q4376 : (Jvm.Cond.soleField "LinkedTongueModel" "order") ∈ lw_all := lw_g (lw_at lw_m17 235 rfl) rfl
theorem q4377 : (Jvm.Cond.lays "LinkedTongueModel" "LinkedTongueModel" "wantSize" "I") ∈ lw_all := lw_g (lw_at lw_m17 236 rfl) rfl
theorem q4378 : (Jvm.Cond.soleField "LinkedTongueModel" "wantSize") ∈ lw_all := lw_g (lw_at lw_m17 237 rfl) rfl
theorem q4379 : (Jvm.Cond.laysFinal "LinkedTongueModel" "LinkedTongueModel" "want" "[B") ∈ lw_all := lw_g (lw_at lw_m17 238 rfl) rfl
theorem q4380 : (Jvm.Cond.soleField "LinkedTongueModel" "want") ∈ lw_all := lw_g (lw_at lw_m17 239 rfl) rfl
theorem q4381 : (Jvm.Cond.lays "LinkedTongueModel" "LinkedTongueModel" "candidates" "I") ∈ lw_all := lw_g (lw_at lw_m18 0 rfl) rfl
theorem q4382 : (Jvm.Cond.soleField "LinkedTongueModel" "candidates") ∈ lw_all := lw_g (lw_at lw_m18 1 rfl) rfl
theorem q4383 : (Jvm.Cond.laysFinal "LinkedTongueModel" "LinkedTongueModel" "candidate" "[I") ∈ lw_all := lw_g (lw_at lw_m18 2 rfl) rfl
theorem q4384 : (Jvm.Cond.soleField "LinkedTongueModel" "candidate") ∈ lw_all := lw_g (lw_at lw_m18 3 rfl) rfl
theorem q4385 : (Jvm.Cond.lays "LinkedTongueModel" "LinkedTongueModel" "fields" "I") ∈ lw_all := lw_g (lw_at lw_m18 4 rfl) rfl
theorem q4386 : (Jvm.Cond.soleField "LinkedTongueModel" "fields") ∈ lw_all := lw_g (lw_at lw_m18 5 rfl) rfl
theorem q4387 : (Jvm.Cond.laysFinal "LinkedTongueModel" "LinkedTongueModel" "fieldOf" "[I") ∈ lw_all := lw_g (lw_at lw_m18 6 rfl) rfl
theorem q4388 : (Jvm.Cond.soleField "LinkedTongueModel" "fieldOf") ∈ lw_all := lw_g (lw_at lw_m18 7 rfl) rfl
theorem q4389 : (Jvm.Cond.laysFinal "LinkedTongueModel" "LinkedTongueModel" "state" "[I") ∈ lw_all := lw_g (lw_at lw_m18 8 rfl) rfl
theorem q4390 : (Jvm.Cond.soleField "LinkedTongueModel" "state") ∈ lw_all := lw_g (lw_at lw_m18 9 rfl) rfl
theorem q4391 : (Jvm.Cond.laysFinal "LinkedTongueModel" "LinkedTongueModel" "frames" "[I") ∈ lw_all := lw_g (lw_at lw_m18 10 rfl) rfl
theorem q4392 : (Jvm.Cond.soleField "LinkedTongueModel" "frames") ∈ lw_all := lw_g (lw_at lw_m18 11 rfl) rfl
theorem q4393 : (Jvm.Cond.laysFinal "LinkedTongueModel" "LinkedTongueModel" "height" "[I") ∈ lw_all := lw_g (lw_at lw_m18 12 rfl) rfl
theorem q4394 : (Jvm.Cond.soleField "LinkedTongueModel" "height") ∈ lw_all := lw_g (lw_at lw_m18 13 rfl) rfl
theorem q4395 : (Jvm.Cond.laysFinal "LinkedTongueModel" "LinkedTongueModel" "tries" "[I") ∈ lw_all := lw_g (lw_at lw_m18 14 rfl) rfl
theorem q4396 : (Jvm.Cond.soleField "LinkedTongueModel" "tries") ∈ lw_all := lw_g (lw_at lw_m18 15 rfl) rfl
theorem q4397 : (Jvm.Cond.laysFinal "LinkedTongueModel" "LinkedTongueModel" "resultType" "[I") ∈ lw_all := lw_g (lw_at lw_m18 16 rfl) rfl
theorem q4398 : (Jvm.Cond.soleField "LinkedTongueModel" "resultType") ∈ lw_all := lw_g (lw_at lw_m18 17 rfl) rfl
theorem q4399 : (Jvm.Cond.laysFinal "LinkedTongueModel" "LinkedTongueModel" "resultValue" "[J") ∈ lw_all := lw_g (lw_at lw_m18 18 rfl) rfl
theorem q4400 : (Jvm.Cond.soleField "LinkedTongueModel" "resultValue") ∈ lw_all := lw_g (lw_at lw_m18 19 rfl) rfl
theorem q4401 : (Jvm.Cond.laysFinal "LinkedTongueModel" "LinkedTongueModel" "pileType" "[I") ∈ lw_all := lw_g (lw_at lw_m18 20 rfl) rfl
theorem q4402 : (Jvm.Cond.soleField "LinkedTongueModel" "pileType") ∈ lw_all := lw_g (lw_at lw_m18 21 rfl) rfl
theorem q4403 : (Jvm.Cond.laysFinal "LinkedTongueModel" "LinkedTongueModel" "pileValue" "[J") ∈ lw_all := lw_g (lw_at lw_m18 22 rfl) rfl
theorem q4404 : (Jvm.Cond.soleField "LinkedTongueModel" "pileValue") ∈ lw_all := lw_g (lw_at lw_m18 23 rfl) rfl
theorem q4405 : (Jvm.Cond.laysFinal "LinkedTongueModel" "LinkedTongueModel" "frameFunction" "[I") ∈ lw_all := lw_g (lw_at lw_m18 24 rfl) rfl
theorem q4406 : (Jvm.Cond.soleField "LinkedTongueModel" "frameFunction") ∈ lw_all := lw_g (lw_at lw_m18 25 rfl) rfl
theorem q4407 : (Jvm.Cond.laysFinal "LinkedTongueModel" "LinkedTongueModel" "frameAt" "[I") ∈ lw_all := lw_g (lw_at lw_m18 26 rfl) rfl
theorem q4408 : (Jvm.Cond.soleField "LinkedTongueModel" "frameAt") ∈ lw_all := lw_g (lw_at lw_m18 27 rfl) rfl
theorem q4409 : (Jvm.Cond.laysFinal "LinkedTongueModel" "LinkedTongueModel" "frameAround" "[I") ∈ lw_all := lw_g (lw_at lw_m18 28 rfl) rfl
theorem q4410 : (Jvm.Cond.soleField "LinkedTongueModel" "frameAround") ∈ lw_all := lw_g (lw_at lw_m18 29 rfl) rfl
theorem q4411 : (Jvm.Cond.laysFinal "LinkedTongueModel" "LinkedTongueModel" "thisType" "[I") ∈ lw_all := lw_g (lw_at lw_m18 30 rfl) rfl
theorem q4412 : (Jvm.Cond.soleField "LinkedTongueModel" "thisType") ∈ lw_all := lw_g (lw_at lw_m18 31 rfl) rfl
theorem q4413 : (Jvm.Cond.laysFinal "LinkedTongueModel" "LinkedTongueModel" "thisValue" "[J") ∈ lw_all := lw_g (lw_at lw_m18 32 rfl) rfl
theorem q4414 : (Jvm.Cond.soleField "LinkedTongueModel" "thisValue") ∈ lw_all := lw_g (lw_at lw_m18 33 rfl) rfl
theorem q4415 : (Jvm.Cond.laysFinal "LinkedTongueModel" "LinkedTongueModel" "frameNew" "[I") ∈ lw_all := lw_g (lw_at lw_m18 34 rfl) rfl
theorem q4416 : (Jvm.Cond.soleField "LinkedTongueModel" "frameNew") ∈ lw_all := lw_g (lw_at lw_m18 35 rfl) rfl
theorem q4417 : (Jvm.Cond.laysFinal "LinkedTongueModel" "LinkedTongueModel" "frameBase" "[I") ∈ lw_all := lw_g (lw_at lw_m18 36 rfl) rfl
theorem q4418 : (Jvm.Cond.soleField "LinkedTongueModel" "frameBase") ∈ lw_all := lw_g (lw_at lw_m18 37 rfl) rfl
theorem q4419 : (Jvm.Cond.laysFinal "LinkedTongueModel" "LinkedTongueModel" "frameTries" "[I") ∈ lw_all := lw_g (lw_at lw_m18 38 rfl) rfl
theorem q4420 : (Jvm.Cond.soleField "LinkedTongueModel" "frameTries") ∈ lw_all := lw_g (lw_at lw_m18 39 rfl) rfl
theorem q4421 : (Jvm.Cond.laysFinal "LinkedTongueModel" "LinkedTongueModel" "tryAt" "[I") ∈ lw_all := lw_g (lw_at lw_m18 40 rfl) rfl
theorem q4422 : (Jvm.Cond.soleField "LinkedTongueModel" "tryAt") ∈ lw_all := lw_g (lw_at lw_m18 41 rfl) rfl
theorem q4423 : (Jvm.Cond.laysFinal "LinkedTongueModel" "LinkedTongueModel" "tryHeight" "[I") ∈ lw_all := lw_g (lw_at lw_m18 42 rfl) rfl
theorem q4424 : (Jvm.Cond.soleField "LinkedTongueModel" "tryHeight") ∈ lw_all := lw_g (lw_at lw_m18 43 rfl) rfl
theorem q4425 : (Jvm.Cond.laysFinal "LinkedTongueModel" "LinkedTongueModel" "tryFrame" "[I") ∈ lw_all := lw_g (lw_at lw_m18 44 rfl) rfl
theorem q4426 : (Jvm.Cond.soleField "LinkedTongueModel" "tryFrame") ∈ lw_all := lw_g (lw_at lw_m18 45 rfl) rfl
theorem q4427 : (Jvm.Cond.lays "LinkedTongueModel" "LinkedTongueModel" "t" "I") ∈ lw_all := lw_g (lw_at lw_m18 46 rfl) rfl
theorem q4428 : (Jvm.Cond.soleField "LinkedTongueModel" "t") ∈ lw_all := lw_g (lw_at lw_m18 47 rfl) rfl
theorem q4429 : (Jvm.Cond.lays "LinkedTongueModel" "LinkedTongueModel" "p0" "I") ∈ lw_all := lw_g (lw_at lw_m18 48 rfl) rfl
theorem q4430 : (Jvm.Cond.soleField "LinkedTongueModel" "p0") ∈ lw_all := lw_g (lw_at lw_m18 49 rfl) rfl
theorem q4431 : (Jvm.Cond.lays "LinkedTongueModel" "LinkedTongueModel" "f0" "I") ∈ lw_all := lw_g (lw_at lw_m18 50 rfl) rfl
theorem q4432 : (Jvm.Cond.soleField "LinkedTongueModel" "f0") ∈ lw_all := lw_g (lw_at lw_m18 51 rfl) rfl
theorem q4433 : (Jvm.Cond.lays "LinkedTongueModel" "LinkedTongueModel" "top" "I") ∈ lw_all := lw_g (lw_at lw_m18 52 rfl) rfl
theorem q4434 : (Jvm.Cond.soleField "LinkedTongueModel" "top") ∈ lw_all := lw_g (lw_at lw_m18 53 rfl) rfl
theorem q4435 : (Jvm.Cond.lays "LinkedTongueModel" "LinkedTongueModel" "after" "I") ∈ lw_all := lw_g (lw_at lw_m18 54 rfl) rfl
theorem q4436 : (Jvm.Cond.soleField "LinkedTongueModel" "after") ∈ lw_all := lw_g (lw_at lw_m18 55 rfl) rfl
theorem q4437 : (Jvm.Cond.laysFinal "LinkedTongueModel" "LinkedTongueModel" "entries" "[I") ∈ lw_all := lw_g (lw_at lw_m18 56 rfl) rfl
theorem q4438 : (Jvm.Cond.soleField "LinkedTongueModel" "entries") ∈ lw_all := lw_g (lw_at lw_m18 57 rfl) rfl
theorem q4439 : (Jvm.Cond.laysFinal "LinkedTongueModel" "LinkedTongueModel" "linker" "[I") ∈ lw_all := lw_g (lw_at lw_m18 58 rfl) rfl
theorem q4440 : (Jvm.Cond.soleField "LinkedTongueModel" "linker") ∈ lw_all := lw_g (lw_at lw_m18 59 rfl) rfl
theorem q4441 : (Jvm.Cond.laysFinal "LinkedTongueModel" "LinkedTongueModel" "guard" "[I") ∈ lw_all := lw_g (lw_at lw_m18 60 rfl) rfl
theorem q4442 : (Jvm.Cond.soleField "LinkedTongueModel" "guard") ∈ lw_all := lw_g (lw_at lw_m18 61 rfl) rfl
theorem q4443 : (Jvm.Cond.laysFinal "LinkedTongueModel" "LinkedTongueModel" "guardName" "[I") ∈ lw_all := lw_g (lw_at lw_m18 62 rfl) rfl
theorem q4444 : (Jvm.Cond.soleField "LinkedTongueModel" "guardName") ∈ lw_all := lw_g (lw_at lw_m18 63 rfl) rfl
theorem q4445 : (Jvm.Cond.laysFinal "LinkedTongueModel" "LinkedTongueModel" "holder" "[I") ∈ lw_all := lw_g (lw_at lw_m18 64 rfl) rfl
theorem q4446 : (Jvm.Cond.soleField "LinkedTongueModel" "holder") ∈ lw_all := lw_g (lw_at lw_m18 65 rfl) rfl
theorem q4447 : (Jvm.Cond.laysFinal "LinkedTongueModel" "LinkedTongueModel" "which" "[I") ∈ lw_all := lw_g (lw_at lw_m18 66 rfl) rfl
theorem q4448 : (Jvm.Cond.soleField "LinkedTongueModel" "which") ∈ lw_all := lw_g (lw_at lw_m18 67 rfl) rfl
theorem q4449 : (Jvm.Cond.laysFinal "LinkedTongueModel" "LinkedTongueModel" "toShape" "[I") ∈ lw_all := lw_g (lw_at lw_m18 68 rfl) rfl
theorem q4450 : (Jvm.Cond.soleField "LinkedTongueModel" "toShape") ∈ lw_all := lw_g (lw_at lw_m18 69 rfl) rfl
theorem q4451 : (Jvm.Cond.laysFinal "LinkedTongueModel" "LinkedTongueModel" "linkedAt" "[I") ∈ lw_all := lw_g (lw_at lw_m18 70 rfl) rfl
theorem q4452 : (Jvm.Cond.soleField "LinkedTongueModel" "linkedAt") ∈ lw_all := lw_g (lw_at lw_m18 71 rfl) rfl
theorem q4453 : (Jvm.Cond.laysFinal "LinkedTongueModel" "LinkedTongueModel" "guardMany" "[I") ∈ lw_all := lw_g (lw_at lw_m18 72 rfl) rfl
theorem q4454 : (Jvm.Cond.soleField "LinkedTongueModel" "guardMany") ∈ lw_all := lw_g (lw_at lw_m18 73 rfl) rfl
theorem q4455 : (Jvm.Cond.laysFinal "LinkedTongueModel" "LinkedTongueModel" "guardTypes" "[J") ∈ lw_all := lw_g (lw_at lw_m18 74 rfl) rfl
theorem q4456 : (Jvm.Cond.soleField "LinkedTongueModel" "guardTypes") ∈ lw_all := lw_g (lw_at lw_m18 75 rfl) rfl
theorem q4457 : (Jvm.Cond.lays "LinkedTongueModel" "LinkedTongueModel" "foundLinker" "I") ∈ lw_all := lw_g (lw_at lw_m18 76 rfl) rfl
theorem q4458 : (Jvm.Cond.soleField "LinkedTongueModel" "foundLinker") ∈ lw_all := lw_g (lw_at lw_m18 77 rfl) rfl
theorem q4459 : (Jvm.Cond.lays "LinkedTongueModel" "LinkedTongueModel" "foundGuard" "I") ∈ lw_all := lw_g (lw_at lw_m18 78 rfl) rfl
theorem q4460 : (Jvm.Cond.soleField "LinkedTongueModel" "foundGuard") ∈ lw_all := lw_g (lw_at lw_m18 79 rfl) rfl
theorem q4461 : (Jvm.Cond.lays "LinkedTongueModel" "LinkedTongueModel" "foundName" "I") ∈ lw_all := lw_g (lw_at lw_m18 80 rfl) rfl
theorem q4462 : (Jvm.Cond.soleField "LinkedTongueModel" "foundName") ∈ lw_all := lw_g (lw_at lw_m18 81 rfl) rfl
theorem q4463 : (Jvm.Cond.lays "LinkedTongueModel" "LinkedTongueModel" "foundHolder" "I") ∈ lw_all := lw_g (lw_at lw_m18 82 rfl) rfl
theorem q4464 : (Jvm.Cond.soleField "LinkedTongueModel" "foundHolder") ∈ lw_all := lw_g (lw_at lw_m18 83 rfl) rfl
theorem q4465 : (Jvm.Cond.lays "LinkedTongueModel" "LinkedTongueModel" "foundWhich" "I") ∈ lw_all := lw_g (lw_at lw_m18 84 rfl) rfl
theorem q4466 : (Jvm.Cond.soleField "LinkedTongueModel" "foundWhich") ∈ lw_all := lw_g (lw_at lw_m18 85 rfl) rfl
theorem q4467 : (Jvm.Cond.lays "LinkedTongueModel" "LinkedTongueModel" "foundShape" "I") ∈ lw_all := lw_g (lw_at lw_m18 86 rfl) rfl
theorem q4468 : (Jvm.Cond.soleField "LinkedTongueModel" "foundShape") ∈ lw_all := lw_g (lw_at lw_m18 87 rfl) rfl
theorem q4469 : (Jvm.Cond.lays "LinkedTongueModel" "LinkedTongueModel" "foundMany" "I") ∈ lw_all := lw_g (lw_at lw_m18 88 rfl) rfl
theorem q4470 : (Jvm.Cond.soleField "LinkedTongueModel" "foundMany") ∈ lw_all := lw_g (lw_at lw_m18 89 rfl) rfl
theorem q4471 : (Jvm.Cond.lays "LinkedTongueModel" "LinkedTongueModel" "\x72" "I") ∈ lw_all := lw_g (lw_at lw_m18 90 rfl) rfl
theorem q4472 : (Jvm.Cond.soleField "LinkedTongueModel" "\x72") ∈ lw_all := lw_g (lw_at lw_m18 91 rfl) rfl
theorem q4473 : (Jvm.Cond.lays "LinkedTongueModel" "LinkedTongueModel" "goesType" "I") ∈ lw_all := lw_g (lw_at lw_m18 92 rfl) rfl
theorem q4474 : (Jvm.Cond.soleField "LinkedTongueModel" "goesType") ∈ lw_all := lw_g (lw_at lw_m18 93 rfl) rfl
theorem q4475 : (Jvm.Cond.lays "LinkedTongueModel" "LinkedTongueModel" "goesValue" "J") ∈ lw_all := lw_g (lw_at lw_m18 94 rfl) rfl
theorem q4476 : (Jvm.Cond.soleField "LinkedTongueModel" "goesValue") ∈ lw_all := lw_g (lw_at lw_m18 95 rfl) rfl
theorem q4477 : (Jvm.Cond.lays "LinkedTongueModel" "LinkedTongueModel" "es" "I") ∈ lw_all := lw_g (lw_at lw_m18 96 rfl) rfl
theorem q4478 : (Jvm.Cond.soleField "LinkedTongueModel" "es") ∈ lw_all := lw_g (lw_at lw_m18 97 rfl) rfl
theorem q4479 : (Jvm.Cond.lays "LinkedTongueModel" "LinkedTongueModel" "elementName" "I") ∈ lw_all := lw_g (lw_at lw_m18 98 rfl) rfl
theorem q4480 : (Jvm.Cond.soleField "LinkedTongueModel" "elementName") ∈ lw_all := lw_g (lw_at lw_m18 99 rfl) rfl
theorem q4481 : (Jvm.Cond.laysFinal "LinkedTongueModel" "LinkedTongueModel" "used1" "[Z") ∈ lw_all := lw_g (lw_at lw_m18 100 rfl) rfl
theorem q4482 : (Jvm.Cond.soleField "LinkedTongueModel" "used1") ∈ lw_all := lw_g (lw_at lw_m18 101 rfl) rfl
theorem q4483 : (Jvm.Cond.laysFinal "LinkedTongueModel" "LinkedTongueModel" "counted" "[I") ∈ lw_all := lw_g (lw_at lw_m18 102 rfl) rfl
theorem q4484 : (Jvm.Cond.soleField "LinkedTongueModel" "counted") ∈ lw_all := lw_g (lw_at lw_m18 103 rfl) rfl
theorem q4485 : (Jvm.Cond.superclass "LinkedTongueModel" "java/lang/Object") ∈ lw_all := lw_g (lw_at lw_m18 104 rfl) rfl
theorem q4487 : (Jvm.Cond.instanceMethod ({ cls := "LinkedTongueModel", name := "thrown", desc := "()I" } : Jvm.MethodName)) ∈ lw_all := lw_g (lw_at lw_m18 106 rfl) rfl
theorem q4488 : (Jvm.Cond.selects "LinkedTongueModel" ({ cls := "LinkedTongueModel", name := "thrown", desc := "()I" } : Jvm.MethodName) ({ cls := "LinkedTongueModel", name := "thrown", desc := "()I" } : Jvm.MethodName)) ∈ lw_all := lw_g (lw_at lw_m18 107 rfl) rfl
theorem q4489 : (Jvm.Cond.code ({ cls := "LinkedTongueModel", name := "thrown", desc := "()I" } : Jvm.MethodName) prog_49_method_2_code (1 : Nat) (Option.some Jvm.ClassFile.FieldType.int)) ∈ lw_all := lw_g (lw_at lw_m18 108 rfl) rfl
theorem q4491 : (Jvm.Cond.instanceMethod ({ cls := "LinkedTongueModel", name := "feed", desc := "(JJ)I" } : Jvm.MethodName)) ∈ lw_all := lw_g (lw_at lw_m18 110 rfl) rfl
theorem q4492 : (Jvm.Cond.selects "LinkedTongueModel" ({ cls := "LinkedTongueModel", name := "feed", desc := "(JJ)I" } : Jvm.MethodName) ({ cls := "LinkedTongueModel", name := "feed", desc := "(JJ)I" } : Jvm.MethodName)) ∈ lw_all := lw_g (lw_at lw_m18 111 rfl) rfl
theorem q4493 : (Jvm.Cond.code ({ cls := "LinkedTongueModel", name := "feed", desc := "(JJ)I" } : Jvm.MethodName) prog_49_method_6_code (7 : Nat) (Option.some Jvm.ClassFile.FieldType.int)) ∈ lw_all := lw_g (lw_at lw_m18 112 rfl) rfl
theorem q4494 : (Jvm.Cond.methodLink "LinkedTongueModel" (383 : Nat) ({ cls := "LinkedTongueModel", name := "signsIn", desc := "(J)I" } : Jvm.MethodName)) ∈ lw_all := lw_g (lw_at lw_m18 113 rfl) rfl
theorem q4495 : (Jvm.Cond.static ({ cls := "LinkedTongueModel", name := "signsIn", desc := "(J)I" } : Jvm.MethodName)) ∈ lw_all := lw_g (lw_at lw_m18 114 rfl) rfl
theorem q4496 : (Jvm.Cond.code ({ cls := "LinkedTongueModel", name := "signsIn", desc := "(J)I" } : Jvm.MethodName) prog_49_method_4_code (5 : Nat) (Option.some Jvm.ClassFile.FieldType.int)) ∈ lw_all := lw_g (lw_at lw_m18 115 rfl) rfl
theorem q4497 : (Jvm.Cond.constantLong "LinkedTongueModel" (370 : Nat) (255 : Int64)) ∈ lw_all := lw_g (lw_at lw_m18 116 rfl) rfl
theorem q4498 : (Jvm.Cond.constantLong "LinkedTongueModel" (372 : Nat) (32 : Int64)) ∈ lw_all := lw_g (lw_at lw_m18 117 rfl) rfl
theorem q4499 : (Jvm.Cond.constantLong "LinkedTongueModel" (374 : Nat) (126 : Int64)) ∈ lw_all := lw_g (lw_at lw_m18 118 rfl) rfl
theorem q4500 : (Jvm.Cond.methodLink "LinkedTongueModel" (376 : Nat) ({ cls := "LinkedTongueModel", name := "in", desc := "(JJJ)Z" } : Jvm.MethodName)) ∈ lw_all := lw_g (lw_at lw_m18 119 rfl) rfl
theorem q4501 : (Jvm.Cond.static ({ cls := "LinkedTongueModel", name := "in", desc := "(JJJ)Z" } : Jvm.MethodName)) ∈ lw_all := lw_g (lw_at lw_m18 120 rfl) rfl
theorem q4502 : (Jvm.Cond.code ({ cls := "LinkedTongueModel", name := "in", desc := "(JJJ)Z" } : Jvm.MethodName) prog_49_method_3_code (6 : Nat) (Option.some Jvm.ClassFile.FieldType.boolean)) ∈ lw_all := lw_g (lw_at lw_m18 121 rfl) rfl
theorem q4503 : (Jvm.Cond.methodLink "LinkedTongueModel" (387 : Nat) ({ cls := "LinkedTongueModel", name := "types", desc := "(J)V" } : Jvm.MethodName)) ∈ lw_all := lw_g (lw_at lw_m18 122 rfl) rfl
theorem q4504 : (Jvm.Cond.privateMethod ({ cls := "LinkedTongueModel", name := "types", desc := "(J)V" } : Jvm.MethodName)) ∈ lw_tbl := lw_at lw_m18 123 rfl
theorem q4505 : (Jvm.Cond.instanceMethod ({ cls := "LinkedTongueModel", name := "types", desc := "(J)V" } : Jvm.MethodName)) ∈ lw_all := lw_g (lw_at lw_m18 124 rfl) rfl
theorem q4506 : (Jvm.Cond.code ({ cls := "LinkedTongueModel", name := "types", desc := "(J)V" } : Jvm.MethodName) prog_49_method_5_code (5 : Nat) (Option.none : Option Jvm.ClassFile.FieldType)) ∈ lw_all := lw_g (lw_at lw_m18 125 rfl) rfl
theorem q4508 : (Jvm.Cond.instanceMethod ({ cls := "LinkedTongueModel", name := "host", desc := "()I" } : Jvm.MethodName)) ∈ lw_all := lw_g (lw_at lw_m18 127 rfl) rfl
theorem q4509 : (Jvm.Cond.selects "LinkedTongueModel" ({ cls := "LinkedTongueModel", name := "host", desc := "()I" } : Jvm.MethodName) ({ cls := "LinkedTongueModel", name := "host", desc := "()I" } : Jvm.MethodName)) ∈ lw_all := lw_g (lw_at lw_m18 128 rfl) rfl
theorem q4510 : (Jvm.Cond.codeWith ({ cls := "LinkedTongueModel", name := "host", desc := "()I" } : Jvm.MethodName) prog_49_method_23_code (3 : Nat) (Option.some Jvm.ClassFile.FieldType.int) [((36 : Nat), (101 : Nat), (104 : Nat), (9 : Nat))]) ∈ lw_all := lw_g (lw_at lw_m18 129 rfl) rfl
theorem q4511 : (Jvm.Cond.methodLink "LinkedTongueModel" (492 : Nat) ({ cls := "LinkedTongueModel", name := "begins", desc := "(Z)V" } : Jvm.MethodName)) ∈ lw_all := lw_g (lw_at lw_m18 130 rfl) rfl
theorem q4512 : (Jvm.Cond.privateMethod ({ cls := "LinkedTongueModel", name := "begins", desc := "(Z)V" } : Jvm.MethodName)) ∈ lw_tbl := lw_at lw_m18 131 rfl
theorem q4513 : (Jvm.Cond.instanceMethod ({ cls := "LinkedTongueModel", name := "begins", desc := "(Z)V" } : Jvm.MethodName)) ∈ lw_all := lw_g (lw_at lw_m18 132 rfl) rfl
theorem q4514 : (Jvm.Cond.code ({ cls := "LinkedTongueModel", name := "begins", desc := "(Z)V" } : Jvm.MethodName) prog_49_method_10_code (2 : Nat) (Option.none : Option Jvm.ClassFile.FieldType)) ∈ lw_all := lw_g (lw_at lw_m18 133 rfl) rfl
theorem q4515 : (Jvm.Cond.methodLink "LinkedTongueModel" (412 : Nat) ({ cls := "LinkedTongueModel", name := "next", desc := "()V" } : Jvm.MethodName)) ∈ lw_all := lw_g (lw_at lw_m18 134 rfl) rfl
theorem q4516 : (Jvm.Cond.privateMethod ({ cls := "LinkedTongueModel", name := "next", desc := "()V" } : Jvm.MethodName)) ∈ lw_tbl := lw_at lw_m18 135 rfl
theorem q4517 : (Jvm.Cond.instanceMethod ({ cls := "LinkedTongueModel", name := "next", desc := "()V" } : Jvm.MethodName)) ∈ lw_all := lw_g (lw_at lw_m18 136 rfl) rfl
theorem q4518 : (Jvm.Cond.code ({ cls := "LinkedTongueModel", name := "next", desc := "()V" } : Jvm.MethodName) prog_49_method_11_code (5 : Nat) (Option.none : Option Jvm.ClassFile.FieldType)) ∈ lw_all := lw_g (lw_at lw_m18 137 rfl) rfl
theorem q4519 : (Jvm.Cond.methodLink "LinkedTongueModel" (415 : Nat) ({ cls := "LinkedTongueModel", name := "at", desc := "(I)I" } : Jvm.MethodName)) ∈ lw_all := lw_g (lw_at lw_m18 138 rfl) rfl
theorem q4520 : (Jvm.Cond.privateMethod ({ cls := "LinkedTongueModel", name := "at", desc := "(I)I" } : Jvm.MethodName)) ∈ lw_tbl := lw_at lw_m18 139 rfl
theorem q4521 : (Jvm.Cond.instanceMethod ({ cls := "LinkedTongueModel", name := "at", desc := "(I)I" } : Jvm.MethodName)) ∈ lw_all := lw_g (lw_at lw_m18 140 rfl) rfl
theorem q4522 : (Jvm.Cond.code ({ cls := "LinkedTongueModel", name := "at", desc := "(I)I" } : Jvm.MethodName) prog_49_method_7_code (2 : Nat) (Option.some Jvm.ClassFile.FieldType.int)) ∈ lw_all := lw_g (lw_at lw_m18 141 rfl) rfl
theorem q4523 : (Jvm.Cond.methodLink "LinkedTongueModel" (425 : Nat) ({ cls := "LinkedTongueModel", name := "isLetter", desc := "(I)Z" } : Jvm.MethodName)) ∈ lw_all := lw_g (lw_at lw_m18 142 rfl) rfl
theorem q4524 : (Jvm.Cond.static ({ cls := "LinkedTongueModel", name := "isLetter", desc := "(I)Z" } : Jvm.MethodName)) ∈ lw_all := lw_g (lw_at lw_m18 143 rfl) rfl
theorem q4525 : (Jvm.Cond.code ({ cls := "LinkedTongueModel", name := "isLetter", desc := "(I)Z" } : Jvm.MethodName) prog_49_method_8_code (1 : Nat) (Option.some Jvm.ClassFile.FieldType.boolean)) ∈ lw_all := lw_g (lw_at lw_m18 144 rfl) rfl
theorem q4526 : (Jvm.Cond.constantLong "LinkedTongueModel" (393 : Nat) (97 : Int64)) ∈ lw_all := lw_g (lw_at lw_m18 145 rfl) rfl
theorem q4527 : (Jvm.Cond.constantLong "LinkedTongueModel" (395 : Nat) (122 : Int64)) ∈ lw_all := lw_g (lw_at lw_m18 146 rfl) rfl
theorem q4528 : (Jvm.Cond.constantLong "LinkedTongueModel" (397 : Nat) (65 : Int64)) ∈ lw_all := lw_g (lw_at lw_m18 147 rfl) rfl
theorem q4529 : (Jvm.Cond.constantLong "LinkedTongueModel" (399 : Nat) (90 : Int64)) ∈ lw_all := lw_g (lw_at lw_m18 148 rfl) rfl
theorem q4530 : (Jvm.Cond.methodLink "LinkedTongueModel" (429 : Nat) ({ cls := "LinkedTongueModel", name := "isDigit", desc := "(I)Z" } : Jvm.MethodName)) ∈ lw_all := lw_g (lw_at lw_m18 149 rfl) rfl
theorem q4531 : (Jvm.Cond.static ({ cls := "LinkedTongueModel", name := "isDigit", desc := "(I)Z" } : Jvm.MethodName)) ∈ lw_all := lw_g (lw_at lw_m18 150 rfl) rfl
theorem q4532 : (Jvm.Cond.code ({ cls := "LinkedTongueModel", name := "isDigit", desc := "(I)Z" } : Jvm.MethodName) prog_49_method_9_code (1 : Nat) (Option.some Jvm.ClassFile.FieldType.boolean)) ∈ lw_all := lw_g (lw_at lw_m18 151 rfl) rfl
theorem q4533 : (Jvm.Cond.constantLong "LinkedTongueModel" (401 : Nat) (48 : Int64)) ∈ lw_all := lw_g (lw_at lw_m18 152 rfl) rfl
theorem q4534 : (Jvm.Cond.constantLong "LinkedTongueModel" (403 : Nat) (57 : Int64)) ∈ lw_all := lw_g (lw_at lw_m18 153 rfl) rfl
theorem q4535 : (Jvm.Cond.constantLong "LinkedTongueModel" (432 : Nat) (10 : Int64)) ∈ lw_all := lw_g (lw_at lw_m18 154 rfl) rfl
theorem q4536 : (Jvm.Cond.constantLong "LinkedTongueModel" (434 : Nat) (2147483647 : Int64)) ∈ lw_all := lw_g (lw_at lw_m18 155 rfl) rfl
theorem q4537 : (Jvm.Cond.methodLink "LinkedTongueModel" (439 : Nat) ({ cls := "LinkedTongueModel", name := "reads", desc := "()V" } : Jvm.MethodName)) ∈ lw_all := lw_g (lw_at lw_m18 156 rfl) rfl
theorem q4538 : (Jvm.Cond.privateMethod ({ cls := "LinkedTongueModel", name := "reads", desc := "()V" } : Jvm.MethodName)) ∈ lw_tbl := lw_at lw_m18 157 rfl
theorem q4539 : (Jvm.Cond.instanceMethod ({ cls := "LinkedTongueModel", name := "reads", desc := "()V" } : Jvm.MethodName)) ∈ lw_all := lw_g (lw_at lw_m18 158 rfl) rfl
theorem q4540 : (Jvm.Cond.code ({ cls := "LinkedTongueModel", name := "reads", desc := "()V" } : Jvm.MethodName) prog_49_method_12_code (2 : Nat) (Option.none : Option Jvm.ClassFile.FieldType)) ∈ lw_all := lw_g (lw_at lw_m18 159 rfl) rfl
theorem q4541 : (Jvm.Cond.methodLink "LinkedTongueModel" (442 : Nat) ({ cls := "LinkedTongueModel", name := "signs", desc := "(II)V" } : Jvm.MethodName)) ∈ lw_all := lw_g (lw_at lw_m18 160 rfl) rfl
theorem q4542 : (Jvm.Cond.privateMethod ({ cls := "LinkedTongueModel", name := "signs", desc := "(II)V" } : Jvm.MethodName)) ∈ lw_tbl := lw_at lw_m18 161 rfl
theorem q4543 : (Jvm.Cond.instanceMethod ({ cls := "LinkedTongueModel", name := "signs", desc := "(II)V" } : Jvm.MethodName)) ∈ lw_all := lw_g (lw_at lw_m18 162 rfl) rfl
theorem q4544 : (Jvm.Cond.code ({ cls := "LinkedTongueModel", name := "signs", desc := "(II)V" } : Jvm.MethodName) prog_49_method_13_code (5 : Nat) (Option.none : Option Jvm.ClassFile.FieldType)) ∈ lw_all := lw_g (lw_at lw_m18 163 rfl) rfl
theorem q4545 : (Jvm.Cond.methodLink "LinkedTongueModel" (496 : Nat) ({ cls := "LinkedTongueModel", name := "readsClass", desc := "()V" } : Jvm.MethodName)) ∈ lw_all := lw_g (lw_at lw_m18 164 rfl) rfl
theorem q4546 : (Jvm.Cond.privateMethod ({ cls := "LinkedTongueModel", name := "readsClass", desc := "()V" } : Jvm.MethodName)) ∈ lw_tbl := lw_at lw_m18 165 rfl
theorem q4547 : (Jvm.Cond.instanceMethod ({ cls := "LinkedTongueModel", name := "readsClass", desc := "()V" } : Jvm.MethodName)) ∈ lw_all := lw_g (lw_at lw_m18 166 rfl) rfl
theorem q4548 : (Jvm.Cond.code ({ cls := "LinkedTongueModel", name := "readsClass", desc := "()V" } : Jvm.MethodName) prog_49_method_24_code (3 : Nat) (Option.none : Option Jvm.ClassFile.FieldType)) ∈ lw_all := lw_g (lw_at lw_m18 167 rfl) rfl
theorem q4549 : (Jvm.Cond.stringRef "LinkedTongueModel" (504 : Nat) "class") ∈ lw_tbl := lw_at lw_m18 168 rfl
theorem q4550 : (Jvm.Cond.methodLink "LinkedTongueModel" (506 : Nat) ({ cls := "LinkedTongueModel", name := "isWord", desc := "(Ljava/lang/String;)Z" } : Jvm.MethodName)) ∈ lw_all := lw_g (lw_at lw_m18 169 rfl) rfl
theorem q4551 : (Jvm.Cond.privateMethod ({ cls := "LinkedTongueModel", name := "isWord", desc := "(Ljava/lang/String;)Z" } : Jvm.MethodName)) ∈ lw_tbl := lw_at lw_m18 170 rfl
theorem q4552 : (Jvm.Cond.instanceMethod ({ cls := "LinkedTongueModel", name := "isWord", desc := "(Ljava/lang/String;)Z" } : Jvm.MethodName)) ∈ lw_all := lw_g (lw_at lw_m18 171 rfl) rfl
theorem q4553 : (Jvm.Cond.code ({ cls := "LinkedTongueModel", name := "isWord", desc := "(Ljava/lang/String;)Z" } : Jvm.MethodName) prog_49_method_19_code (4 : Nat) (Option.some Jvm.ClassFile.FieldType.boolean)) ∈ lw_all := lw_g (lw_at lw_m18 172 rfl) rfl
theorem q4554 : (Jvm.Cond.methodLink "LinkedTongueModel" (463 : Nat) ({ cls := "java/lang/String", name := "length", desc := "()I" } : Jvm.MethodName)) ∈ lw_all := lw_g (lw_at lw_m18 173 rfl) rfl
theorem q4555 : (Jvm.Cond.methodLink "LinkedTongueModel" (469 : Nat) ({ cls := "java/lang/String", name := "charAt", desc := "(I)C" } : Jvm.MethodName)) ∈ lw_all := lw_g (lw_at lw_m18 174 rfl) rfl
theorem q4556 : (Jvm.Cond.stringRef "LinkedTongueModel" (510 : Nat) "interface") ∈ lw_tbl := lw_at lw_m18 175 rfl
theorem q4557 : (Jvm.Cond.methodLink "LinkedTongueModel" (459 : Nat) ({ cls := "LinkedTongueModel", name := "must", desc := "(ZI)V" } : Jvm.MethodName)) ∈ lw_all := lw_g (lw_at lw_m18 176 rfl) rfl
theorem q4558 : (Jvm.Cond.privateMethod ({ cls := "LinkedTongueModel", name := "must", desc := "(ZI)V" } : Jvm.MethodName)) ∈ lw_tbl := lw_at lw_m18 177 rfl
theorem q4559 : (Jvm.Cond.instanceMethod ({ cls := "LinkedTongueModel", name := "must", desc := "(ZI)V" } : Jvm.MethodName)) ∈ lw_all := lw_g (lw_at lw_m18 178 rfl) rfl
theorem q4560 : (Jvm.Cond.code ({ cls := "LinkedTongueModel", name := "must", desc := "(ZI)V" } : Jvm.MethodName) prog_49_method_15_code (3 : Nat) (Option.none : Option Jvm.ClassFile.FieldType)) ∈ lw_all := lw_g (lw_at lw_m18 179 rfl) rfl
theorem q4561 : (Jvm.Cond.methodLink "LinkedTongueModel" (452 : Nat) ({ cls := "LinkedTongueModel$Halt", name := "of", desc := "(II)LLinkedTongueModel$Halt;" } : Jvm.MethodName)) ∈ lw_all := lw_g (lw_at lw_m18 180 rfl) rfl
theorem q4565 : (Jvm.Cond.methodLink "LinkedTongueModel" (512 : Nat) ({ cls := "LinkedTongueModel", name := "classHere", desc := "()I" } : Jvm.MethodName)) ∈ lw_all := lw_g (lw_at lw_m18 184 rfl) rfl
theorem q4566 : (Jvm.Cond.privateMethod ({ cls := "LinkedTongueModel", name := "classHere", desc := "()I" } : Jvm.MethodName)) ∈ lw_tbl := lw_at lw_m18 185 rfl
theorem q4567 : (Jvm.Cond.instanceMethod ({ cls := "LinkedTongueModel", name := "classHere", desc := "()I" } : Jvm.MethodName)) ∈ lw_all := lw_g (lw_at lw_m18 186 rfl) rfl
theorem q4568 : (Jvm.Cond.code ({ cls := "LinkedTongueModel", name := "classHere", desc := "()I" } : Jvm.MethodName) prog_49_method_22_code (5 : Nat) (Option.some Jvm.ClassFile.FieldType.int)) ∈ lw_all := lw_g (lw_at lw_m18 187 rfl) rfl
theorem q4569 : (Jvm.Cond.stringRef "LinkedTongueModel" (515 : Nat) " void int long bool Int Long Bool Text Any class interface static new ") ∈ lw_tbl := lw_at lw_m18 188 rfl
theorem q4570 : (Jvm.Cond.methodLink "LinkedTongueModel" (517 : Nat) ({ cls := "LinkedTongueModel", name := "isOneOf", desc := "(Ljava/lang/String;)Z" } : Jvm.MethodName)) ∈ lw_all := lw_g (lw_at lw_m18 189 rfl) rfl
theorem q4571 : (Jvm.Cond.privateMethod ({ cls := "LinkedTongueModel", name := "isOneOf", desc := "(Ljava/lang/String;)Z" } : Jvm.MethodName)) ∈ lw_tbl := lw_at lw_m18 190 rfl
theorem q4572 : (Jvm.Cond.instanceMethod ({ cls := "LinkedTongueModel", name := "isOneOf", desc := "(Ljava/lang/String;)Z" } : Jvm.MethodName)) ∈ lw_all := lw_g (lw_at lw_m18 191 rfl) rfl
theorem q4573 : (Jvm.Cond.code ({ cls := "LinkedTongueModel", name := "isOneOf", desc := "(Ljava/lang/String;)Z" } : Jvm.MethodName) prog_49_method_20_code (2 : Nat) (Option.some Jvm.ClassFile.FieldType.boolean)) ∈ lw_all := lw_g (lw_at lw_m18 192 rfl) rfl
theorem q4574 : (Jvm.Cond.methodLink "LinkedTongueModel" (473 : Nat) ({ cls := "LinkedTongueModel", name := "place", desc := "(Ljava/lang/String;)I" } : Jvm.MethodName)) ∈ lw_all := lw_g (lw_at lw_m18 193 rfl) rfl
theorem q4575 : (Jvm.Cond.privateMethod ({ cls := "LinkedTongueModel", name := "place", desc := "(Ljava/lang/String;)I" } : Jvm.MethodName)) ∈ lw_tbl := lw_at lw_m18 194 rfl
theorem q4576 : (Jvm.Cond.instanceMethod ({ cls := "LinkedTongueModel", name := "place", desc := "(Ljava/lang/String;)I" } : Jvm.MethodName)) ∈ lw_all := lw_g (lw_at lw_m18 195 rfl) rfl
theorem q4577 : (Jvm.Cond.code ({ cls := "LinkedTongueModel", name := "place", desc := "(Ljava/lang/String;)I" } : Jvm.MethodName) prog_49_method_21_code (7 : Nat) (Option.some Jvm.ClassFile.FieldType.int)) ∈ lw_all := lw_g (lw_at lw_m18 196 rfl) rfl
theorem q4578 : (Jvm.Cond.methodLink "LinkedTongueModel" (538 : Nat) ({ cls := "LinkedTongueModel", name := "accepts", desc := "(I)Z" } : Jvm.MethodName)) ∈ lw_all := lw_g (lw_at lw_m18 197 rfl) rfl
theorem q4579 : (Jvm.Cond.privateMethod ({ cls := "LinkedTongueModel", name := "accepts", desc := "(I)Z" } : Jvm.MethodName)) ∈ lw_tbl := lw_at lw_m18 198 rfl
theorem q4580 : (Jvm.Cond.instanceMethod ({ cls := "LinkedTongueModel", name := "accepts", desc := "(I)Z" } : Jvm.MethodName)) ∈ lw_all := lw_g (lw_at lw_m18 199 rfl) rfl
theorem q4581 : (Jvm.Cond.code ({ cls := "LinkedTongueModel", name := "accepts", desc := "(I)Z" } : Jvm.MethodName) prog_49_method_17_code (3 : Nat) (Option.some Jvm.ClassFile.FieldType.boolean)) ∈ lw_all := lw_g (lw_at lw_m18 200 rfl) rfl
theorem q4582 : (Jvm.Cond.methodLink "LinkedTongueModel" (456 : Nat) ({ cls := "LinkedTongueModel", name := "isSign", desc := "(I)Z" } : Jvm.MethodName)) ∈ lw_all := lw_g (lw_at lw_m18 201 rfl) rfl
theorem q4583 : (Jvm.Cond.privateMethod ({ cls := "LinkedTongueModel", name := "isSign", desc := "(I)Z" } : Jvm.MethodName)) ∈ lw_tbl := lw_at lw_m18 202 rfl
theorem q4584 : (Jvm.Cond.instanceMethod ({ cls := "LinkedTongueModel", name := "isSign", desc := "(I)Z" } : Jvm.MethodName)) ∈ lw_all := lw_g (lw_at lw_m18 203 rfl) rfl
theorem q4585 : (Jvm.Cond.code ({ cls := "LinkedTongueModel", name := "isSign", desc := "(I)Z" } : Jvm.MethodName) prog_49_method_16_code (2 : Nat) (Option.some Jvm.ClassFile.FieldType.boolean)) ∈ lw_all := lw_g (lw_at lw_m18 204 rfl) rfl
theorem q4586 : (Jvm.Cond.methodLink "LinkedTongueModel" (541 : Nat) ({ cls := "LinkedTongueModel", name := "readsSuper", desc := "(I)V" } : Jvm.MethodName)) ∈ lw_all := lw_g (lw_at lw_m18 205 rfl) rfl
theorem q4587 : (Jvm.Cond.privateMethod ({ cls := "LinkedTongueModel", name := "readsSuper", desc := "(I)V" } : Jvm.MethodName)) ∈ lw_tbl := lw_at lw_m18 206 rfl
theorem q4588 : (Jvm.Cond.instanceMethod ({ cls := "LinkedTongueModel", name := "readsSuper", desc := "(I)V" } : Jvm.MethodName)) ∈ lw_all := lw_g (lw_at lw_m18 207 rfl) rfl
theorem q4589 : (Jvm.Cond.code ({ cls := "LinkedTongueModel", name := "readsSuper", desc := "(I)V" } : Jvm.MethodName) prog_49_method_25_code (5 : Nat) (Option.none : Option Jvm.ClassFile.FieldType)) ∈ lw_all := lw_g (lw_at lw_m18 208 rfl) rfl
theorem q4590 : (Jvm.Cond.methodLink "LinkedTongueModel" (544 : Nat) ({ cls := "LinkedTongueModel", name := "takes", desc := "(I)V" } : Jvm.MethodName)) ∈ lw_all := lw_g (lw_at lw_m18 209 rfl) rfl
theorem q4591 : (Jvm.Cond.privateMethod ({ cls := "LinkedTongueModel", name := "takes", desc := "(I)V" } : Jvm.MethodName)) ∈ lw_tbl := lw_at lw_m18 210 rfl
theorem q4592 : (Jvm.Cond.instanceMethod ({ cls := "LinkedTongueModel", name := "takes", desc := "(I)V" } : Jvm.MethodName)) ∈ lw_all := lw_g (lw_at lw_m18 211 rfl) rfl
theorem q4593 : (Jvm.Cond.code ({ cls := "LinkedTongueModel", name := "takes", desc := "(I)V" } : Jvm.MethodName) prog_49_method_18_code (2 : Nat) (Option.none : Option Jvm.ClassFile.FieldType)) ∈ lw_all := lw_g (lw_at lw_m18 212 rfl) rfl
theorem q4594 : (Jvm.Cond.methodLink "LinkedTongueModel" (547 : Nat) ({ cls := "LinkedTongueModel", name := "readsMember", desc := "(I)V" } : Jvm.MethodName)) ∈ lw_all := lw_g (lw_at lw_m18 213 rfl) rfl
theorem q4595 : (Jvm.Cond.privateMethod ({ cls := "LinkedTongueModel", name := "readsMember", desc := "(I)V" } : Jvm.MethodName)) ∈ lw_tbl := lw_at lw_m18 214 rfl
theorem q4596 : (Jvm.Cond.instanceMethod ({ cls := "LinkedTongueModel", name := "readsMember", desc := "(I)V" } : Jvm.MethodName)) ∈ lw_all := lw_g (lw_at lw_m18 215 rfl) rfl
theorem q4597 : (Jvm.Cond.code ({ cls := "LinkedTongueModel", name := "readsMember", desc := "(I)V" } : Jvm.MethodName) prog_49_method_27_code (5 : Nat) (Option.none : Option Jvm.ClassFile.FieldType)) ∈ lw_all := lw_g (lw_at lw_m18 216 rfl) rfl
theorem q4598 : (Jvm.Cond.stringRef "LinkedTongueModel" (555 : Nat) "static") ∈ lw_tbl := lw_at lw_m18 217 rfl
theorem q4599 : (Jvm.Cond.stringRef "LinkedTongueModel" (557 : Nat) "new") ∈ lw_tbl := lw_at lw_m18 218 rfl
theorem q4600 : (Jvm.Cond.stringRef "LinkedTongueModel" (553 : Nat) " void int long bool Int Long Bool Text Any ") ∈ lw_tbl := lw_at lw_m18 219 rfl
theorem q4601 : (Jvm.Cond.methodLink "LinkedTongueModel" (577 : Nat) ({ cls := "LinkedTongueModel", name := "readsParameters", desc := "(II)V" } : Jvm.MethodName)) ∈ lw_all := lw_g (lw_at lw_m18 220 rfl) rfl
theorem q4602 : (Jvm.Cond.privateMethod ({ cls := "LinkedTongueModel", name := "readsParameters", desc := "(II)V" } : Jvm.MethodName)) ∈ lw_tbl := lw_at lw_m18 221 rfl
theorem q4603 : (Jvm.Cond.instanceMethod ({ cls := "LinkedTongueModel", name := "readsParameters", desc := "(II)V" } : Jvm.MethodName)) ∈ lw_all := lw_g (lw_at lw_m18 222 rfl) rfl
theorem q4604 : (Jvm.Cond.code ({ cls := "LinkedTongueModel", name := "readsParameters", desc := "(II)V" } : Jvm.MethodName) prog_49_method_30_code (6 : Nat) (Option.none : Option Jvm.ClassFile.FieldType)) ∈ lw_all := lw_g (lw_at lw_m18 223 rfl) rfl
theorem q4605 : (Jvm.Cond.methodLink "LinkedTongueModel" (580 : Nat) ({ cls := "LinkedTongueModel", name := "readsType", desc := "(Z)I" } : Jvm.MethodName)) ∈ lw_all := lw_g (lw_at lw_m18 224 rfl) rfl
theorem q4606 : (Jvm.Cond.privateMethod ({ cls := "LinkedTongueModel", name := "readsType", desc := "(Z)I" } : Jvm.MethodName)) ∈ lw_tbl := lw_at lw_m18 225 rfl
theorem q4607 : (Jvm.Cond.instanceMethod ({ cls := "LinkedTongueModel", name := "readsType", desc := "(Z)I" } : Jvm.MethodName)) ∈ lw_all := lw_g (lw_at lw_m18 226 rfl) rfl
theorem q4608 : (Jvm.Cond.code ({ cls := "LinkedTongueModel", name := "readsType", desc := "(Z)I" } : Jvm.MethodName) prog_49_method_26_code (4 : Nat) (Option.some Jvm.ClassFile.FieldType.int)) ∈ lw_all := lw_g (lw_at lw_m18 227 rfl) rfl
theorem q4609 : (Jvm.Cond.methodLink "LinkedTongueModel" (594 : Nat) ({ cls := "LinkedTongueModel", name := "sameOnTape", desc := "(II)Z" } : Jvm.MethodName)) ∈ lw_all := lw_g (lw_at lw_m18 228 rfl) rfl
theorem q4610 : (Jvm.Cond.privateMethod ({ cls := "LinkedTongueModel", name := "sameOnTape", desc := "(II)Z" } : Jvm.MethodName)) ∈ lw_tbl := lw_at lw_m18 229 rfl
theorem q4611 : (Jvm.Cond.instanceMethod ({ cls := "LinkedTongueModel", name := "sameOnTape", desc := "(II)Z" } : Jvm.MethodName)) ∈ lw_all := lw_g (lw_at lw_m18 230 rfl) rfl
theorem q4612 : (Jvm.Cond.code ({ cls := "LinkedTongueModel", name := "sameOnTape", desc := "(II)Z" } : Jvm.MethodName) prog_49_method_29_code (6 : Nat) (Option.some Jvm.ClassFile.FieldType.boolean)) ∈ lw_all := lw_g (lw_at lw_m18 231 rfl) rfl
theorem q4613 : (Jvm.Cond.methodLink "LinkedTongueModel" (601 : Nat) ({ cls := "LinkedTongueModel$Host", name := "haveSameTypes", desc := "(II)Z" } : Jvm.MethodName)) ∈ lw_all := lw_g (lw_at lw_m18 232 rfl) rfl
theorem q4617 : (Jvm.Cond.methodLink "LinkedTongueModel" (584 : Nat) ({ cls := "LinkedTongueModel", name := "readsField", desc := "(III)V" } : Jvm.MethodName)) ∈ lw_all := lw_g (lw_at lw_m18 236 rfl) rfl
theorem q4618 : (Jvm.Cond.privateMethod ({ cls := "LinkedTongueModel", name := "readsField", desc := "(III)V" } : Jvm.MethodName)) ∈ lw_tbl := lw_at lw_m18 237 rfl
theorem q4619 : (Jvm.Cond.instanceMethod ({ cls := "LinkedTongueModel", name := "readsField", desc := "(III)V" } : Jvm.MethodName)) ∈ lw_all := lw_g (lw_at lw_m18 238 rfl) rfl
theorem q4620 : (Jvm.Cond.code ({ cls := "LinkedTongueModel", name := "readsField", desc := "(III)V" } : Jvm.MethodName) prog_49_method_28_code (5 : Nat) (Option.none : Option Jvm.ClassFile.FieldType)) ∈ lw_all := lw_g (lw_at lw_m18 239 rfl) rfl
theorem q4622 : (Jvm.Cond.instanceMethod ({ cls := "LinkedTongueModel", name := "type", desc := "(II)I" } : Jvm.MethodName)) ∈ lw_all := lw_g (lw_at lw_m19 1 rfl) rfl
theorem q4623 : (Jvm.Cond.selects "LinkedTongueModel" ({ cls := "LinkedTongueModel", name := "type", desc := "(II)I" } : Jvm.MethodName) ({ cls := "LinkedTongueModel", name := "type", desc := "(II)I" } : Jvm.MethodName)) ∈ lw_all := lw_g (lw_at lw_m19 2 rfl) rfl
theorem q4624 : (Jvm.Cond.code ({ cls := "LinkedTongueModel", name := "type", desc := "(II)I" } : Jvm.MethodName) prog_49_method_31_code (3 : Nat) (Option.some Jvm.ClassFile.FieldType.int)) ∈ lw_all := lw_g (lw_at lw_m19 3 rfl) rfl
theorem q4626 : (Jvm.Cond.instanceMethod ({ cls := "LinkedTongueModel", name := "member", desc := "(II)I" } : Jvm.MethodName)) ∈ lw_all := lw_g (lw_at lw_m19 5 rfl) rfl
theorem q4627 : (Jvm.Cond.selects "LinkedTongueModel" ({ cls := "LinkedTongueModel", name := "member", desc := "(II)I" } : Jvm.MethodName) ({ cls := "LinkedTongueModel", name := "member", desc := "(II)I" } : Jvm.MethodName)) ∈ lw_all := lw_g (lw_at lw_m19 6 rfl) rfl
theorem q4628 : (Jvm.Cond.code ({ cls := "LinkedTongueModel", name := "member", desc := "(II)I" } : Jvm.MethodName) prog_49_method_32_code (3 : Nat) (Option.some Jvm.ClassFile.FieldType.int)) ∈ lw_all := lw_g (lw_at lw_m19 7 rfl) rfl
theorem q4630 : (Jvm.Cond.instanceMethod ({ cls := "LinkedTongueModel", name := "subtype", desc := "(II)Z" } : Jvm.MethodName)) ∈ lw_all := lw_g (lw_at lw_m19 9 rfl) rfl
theorem q4631 : (Jvm.Cond.selects "LinkedTongueModel" ({ cls := "LinkedTongueModel", name := "subtype", desc := "(II)Z" } : Jvm.MethodName) ({ cls := "LinkedTongueModel", name := "subtype", desc := "(II)Z" } : Jvm.MethodName)) ∈ lw_all := lw_g (lw_at lw_m19 10 rfl) rfl
theorem q4632 : (Jvm.Cond.code ({ cls := "LinkedTongueModel", name := "subtype", desc := "(II)Z" } : Jvm.MethodName) prog_49_method_33_code (4 : Nat) (Option.some Jvm.ClassFile.FieldType.boolean)) ∈ lw_all := lw_g (lw_at lw_m19 11 rfl) rfl
theorem q4633 : (Jvm.Cond.methodLink "LinkedTongueModel" (604 : Nat) ({ cls := "LinkedTongueModel$Host", name := "isSub", desc := "(II)Z" } : Jvm.MethodName)) ∈ lw_all := lw_g (lw_at lw_m19 12 rfl) rfl
theorem q4638 : (Jvm.Cond.instanceMethod ({ cls := "LinkedTongueModel", name := "compile", desc := "()I" } : Jvm.MethodName)) ∈ lw_all := lw_g (lw_at lw_m19 17 rfl) rfl
theorem q4639 : (Jvm.Cond.selects "LinkedTongueModel" ({ cls := "LinkedTongueModel", name := "compile", desc := "()I" } : Jvm.MethodName) ({ cls := "LinkedTongueModel", name := "compile", desc := "()I" } : Jvm.MethodName)) ∈ lw_all := lw_g (lw_at lw_m19 18 rfl) rfl
theorem q4640 : (Jvm.Cond.codeWith ({ cls := "LinkedTongueModel", name := "compile", desc := "()I" } : Jvm.MethodName) prog_49_method_36_code (6 : Nat) (Option.some Jvm.ClassFile.FieldType.int) [((31 : Nat), (59 : Nat), (62 : Nat), (9 : Nat))]) ∈ lw_all := lw_g (lw_at lw_m19 19 rfl) rfl
theorem q4641 : (Jvm.Cond.methodLink "LinkedTongueModel" (619 : Nat) ({ cls := "LinkedTongueModel", name := "readsUnit", desc := "()V" } : Jvm.MethodName)) ∈ lw_all := lw_g (lw_at lw_m19 20 rfl) rfl
theorem q4642 : (Jvm.Cond.privateMethod ({ cls := "LinkedTongueModel", name := "readsUnit", desc := "()V" } : Jvm.MethodName)) ∈ lw_tbl := lw_at lw_m19 21 rfl
theorem q4643 : (Jvm.Cond.instanceMethod ({ cls := "LinkedTongueModel", name := "readsUnit", desc := "()V" } : Jvm.MethodName)) ∈ lw_all := lw_g (lw_at lw_m19 22 rfl) rfl
theorem q4644 : (Jvm.Cond.code ({ cls := "LinkedTongueModel", name := "readsUnit", desc := "()V" } : Jvm.MethodName) prog_49_method_41_code (1 : Nat) (Option.none : Option Jvm.ClassFile.FieldType)) ∈ lw_all := lw_g (lw_at lw_m19 23 rfl) rfl
theorem q4645 : (Jvm.Cond.methodLink "LinkedTongueModel" (658 : Nat) ({ cls := "LinkedTongueModel", name := "canBeginStatement", desc := "()Z" } : Jvm.MethodName)) ∈ lw_all := lw_g (lw_at lw_m19 24 rfl) rfl
theorem q4646 : (Jvm.Cond.privateMethod ({ cls := "LinkedTongueModel", name := "canBeginStatement", desc := "()Z" } : Jvm.MethodName)) ∈ lw_tbl := lw_at lw_m19 25 rfl
theorem q4647 : (Jvm.Cond.instanceMethod ({ cls := "LinkedTongueModel", name := "canBeginStatement", desc := "()Z" } : Jvm.MethodName)) ∈ lw_all := lw_g (lw_at lw_m19 26 rfl) rfl
theorem q4648 : (Jvm.Cond.code ({ cls := "LinkedTongueModel", name := "canBeginStatement", desc := "()Z" } : Jvm.MethodName) prog_49_method_43_code (1 : Nat) (Option.some Jvm.ClassFile.FieldType.boolean)) ∈ lw_all := lw_g (lw_at lw_m19 27 rfl) rfl
theorem q4649 : (Jvm.Cond.stringRef "LinkedTongueModel" (678 : Nat) "else") ∈ lw_tbl := lw_at lw_m19 28 rfl
theorem q4650 : (Jvm.Cond.stringRef "LinkedTongueModel" (680 : Nat) "catch") ∈ lw_tbl := lw_at lw_m19 29 rfl
theorem q4651 : (Jvm.Cond.methodLink "LinkedTongueModel" (682 : Nat) ({ cls := "LinkedTongueModel", name := "canBeginValue", desc := "()Z" } : Jvm.MethodName)) ∈ lw_all := lw_g (lw_at lw_m19 30 rfl) rfl
theorem q4652 : (Jvm.Cond.privateMethod ({ cls := "LinkedTongueModel", name := "canBeginValue", desc := "()Z" } : Jvm.MethodName)) ∈ lw_tbl := lw_at lw_m19 31 rfl
theorem q4653 : (Jvm.Cond.instanceMethod ({ cls := "LinkedTongueModel", name := "canBeginValue", desc := "()Z" } : Jvm.MethodName)) ∈ lw_all := lw_g (lw_at lw_m19 32 rfl) rfl
theorem q4654 : (Jvm.Cond.code ({ cls := "LinkedTongueModel", name := "canBeginValue", desc := "()Z" } : Jvm.MethodName) prog_49_method_42_code (1 : Nat) (Option.some Jvm.ClassFile.FieldType.boolean)) ∈ lw_all := lw_g (lw_at lw_m19 33 rfl) rfl
theorem q4655 : (Jvm.Cond.stringRef "LinkedTongueModel" (676 : Nat) " var if else while return throw try catch ") ∈ lw_tbl := lw_at lw_m19 34 rfl
theorem q4656 : (Jvm.Cond.methodLink "LinkedTongueModel" (661 : Nat) ({ cls := "LinkedTongueModel", name := "fault", desc := "(I)V" } : Jvm.MethodName)) ∈ lw_all := lw_g (lw_at lw_m19 35 rfl) rfl
theorem q4657 : (Jvm.Cond.privateMethod ({ cls := "LinkedTongueModel", name := "fault", desc := "(I)V" } : Jvm.MethodName)) ∈ lw_tbl := lw_at lw_m19 36 rfl
theorem q4658 : (Jvm.Cond.instanceMethod ({ cls := "LinkedTongueModel", name := "fault", desc := "(I)V" } : Jvm.MethodName)) ∈ lw_all := lw_g (lw_at lw_m19 37 rfl) rfl
theorem q4659 : (Jvm.Cond.code ({ cls := "LinkedTongueModel", name := "fault", desc := "(I)V" } : Jvm.MethodName) prog_49_method_14_code (2 : Nat) (Option.none : Option Jvm.ClassFile.FieldType)) ∈ lw_all := lw_g (lw_at lw_m19 38 rfl) rfl
theorem q4660 : (Jvm.Cond.methodLink "LinkedTongueModel" (664 : Nat) ({ cls := "LinkedTongueModel", name := "beginsPart", desc := "()I" } : Jvm.MethodName)) ∈ lw_all := lw_g (lw_at lw_m19 39 rfl) rfl
theorem q4661 : (Jvm.Cond.privateMethod ({ cls := "LinkedTongueModel", name := "beginsPart", desc := "()I" } : Jvm.MethodName)) ∈ lw_tbl := lw_at lw_m19 40 rfl
theorem q4662 : (Jvm.Cond.instanceMethod ({ cls := "LinkedTongueModel", name := "beginsPart", desc := "()I" } : Jvm.MethodName)) ∈ lw_all := lw_g (lw_at lw_m19 41 rfl) rfl
theorem q4663 : (Jvm.Cond.code ({ cls := "LinkedTongueModel", name := "beginsPart", desc := "()I" } : Jvm.MethodName) prog_49_method_39_code (2 : Nat) (Option.some Jvm.ClassFile.FieldType.int)) ∈ lw_all := lw_g (lw_at lw_m19 42 rfl) rfl
theorem q4665 : (Jvm.Cond.methodLinkNest "LinkedTongueModel" (637 : Nat) ({ cls := "LinkedTongueModel$Part", name := "<init>", desc := "()V" } : Jvm.MethodName) "LinkedTongueModel") ∈ lw_tbl := lw_at lw_m19 44 rfl
theorem q4672 : (Jvm.Cond.fieldLinkNest "LinkedTongueModel" (857 : Nat) "LinkedTongueModel$Part" "around" "I" "LinkedTongueModel") ∈ lw_tbl := lw_at lw_m19 51 rfl
theorem q4674 : (Jvm.Cond.fieldLinkNest "LinkedTongueModel" (772 : Nat) "LinkedTongueModel$Part" "parameters" "I" "LinkedTongueModel") ∈ lw_tbl := lw_at lw_m19 53 rfl
theorem q4676 : (Jvm.Cond.fieldLinkNest "LinkedTongueModel" (708 : Nat) "LinkedTongueModel$Part" "variables" "I" "LinkedTongueModel") ∈ lw_tbl := lw_at lw_m19 55 rfl
theorem q4678 : (Jvm.Cond.fieldLinkNest "LinkedTongueModel" (714 : Nat) "LinkedTongueModel$Part" "variable" "[I" "LinkedTongueModel") ∈ lw_tbl := lw_at lw_m19 57 rfl
theorem q4680 : (Jvm.Cond.fieldLinkNest "LinkedTongueModel" (851 : Nat) "LinkedTongueModel$Part" "op" "LLinkedTongueModel$Ints;" "LinkedTongueModel") ∈ lw_tbl := lw_at lw_m19 59 rfl
theorem q4682 : (Jvm.Cond.fieldLinkNest "LinkedTongueModel" (751 : Nat) "LinkedTongueModel$Part" "a" "LLinkedTongueModel$Ints;" "LinkedTongueModel") ∈ lw_tbl := lw_at lw_m19 61 rfl
theorem q4684 : (Jvm.Cond.fieldLinkNest "LinkedTongueModel" (854 : Nat) "LinkedTongueModel$Part" "b" "LLinkedTongueModel$Ints;" "LinkedTongueModel") ∈ lw_tbl := lw_at lw_m19 63 rfl
theorem q4703 : (Jvm.Cond.methodLink "LinkedTongueModel" (641 : Nat) ({ cls := "LinkedTongueModel$Part", name := "begin", desc := "(I)V" } : Jvm.MethodName)) ∈ lw_all := lw_g (lw_at lw_m19 82 rfl) rfl
theorem q4707 : (Jvm.Cond.methodLink "LinkedTongueModel" (667 : Nat) ({ cls := "LinkedTongueModel", name := "into", desc := "(I)V" } : Jvm.MethodName)) ∈ lw_all := lw_g (lw_at lw_m19 86 rfl) rfl
theorem q4708 : (Jvm.Cond.privateMethod ({ cls := "LinkedTongueModel", name := "into", desc := "(I)V" } : Jvm.MethodName)) ∈ lw_tbl := lw_at lw_m19 87 rfl
theorem q4709 : (Jvm.Cond.instanceMethod ({ cls := "LinkedTongueModel", name := "into", desc := "(I)V" } : Jvm.MethodName)) ∈ lw_all := lw_g (lw_at lw_m19 88 rfl) rfl
theorem q4710 : (Jvm.Cond.code ({ cls := "LinkedTongueModel", name := "into", desc := "(I)V" } : Jvm.MethodName) prog_49_method_40_code (2 : Nat) (Option.none : Option Jvm.ClassFile.FieldType)) ∈ lw_all := lw_g (lw_at lw_m19 89 rfl) rfl
theorem q4711 : (Jvm.Cond.methodLink "LinkedTongueModel" (670 : Nat) ({ cls := "LinkedTongueModel", name := "statement", desc := "()V" } : Jvm.MethodName)) ∈ lw_all := lw_g (lw_at lw_m19 90 rfl) rfl
theorem q4712 : (Jvm.Cond.privateMethod ({ cls := "LinkedTongueModel", name := "statement", desc := "()V" } : Jvm.MethodName)) ∈ lw_tbl := lw_at lw_m19 91 rfl
theorem q4713 : (Jvm.Cond.instanceMethod ({ cls := "LinkedTongueModel", name := "statement", desc := "()V" } : Jvm.MethodName)) ∈ lw_all := lw_g (lw_at lw_m19 92 rfl) rfl
theorem q4714 : (Jvm.Cond.code ({ cls := "LinkedTongueModel", name := "statement", desc := "()V" } : Jvm.MethodName) prog_49_method_52_code (3 : Nat) (Option.none : Option Jvm.ClassFile.FieldType)) ∈ lw_all := lw_g (lw_at lw_m19 93 rfl) rfl
theorem q4715 : (Jvm.Cond.stringRef "LinkedTongueModel" (725 : Nat) "var") ∈ lw_tbl := lw_at lw_m19 94 rfl
theorem q4716 : (Jvm.Cond.methodLink "LinkedTongueModel" (727 : Nat) ({ cls := "LinkedTongueModel", name := "declares", desc := "()I" } : Jvm.MethodName)) ∈ lw_all := lw_g (lw_at lw_m19 95 rfl) rfl
theorem q4717 : (Jvm.Cond.privateMethod ({ cls := "LinkedTongueModel", name := "declares", desc := "()I" } : Jvm.MethodName)) ∈ lw_tbl := lw_at lw_m19 96 rfl
theorem q4718 : (Jvm.Cond.instanceMethod ({ cls := "LinkedTongueModel", name := "declares", desc := "()I" } : Jvm.MethodName)) ∈ lw_all := lw_g (lw_at lw_m19 97 rfl) rfl
theorem q4719 : (Jvm.Cond.code ({ cls := "LinkedTongueModel", name := "declares", desc := "()I" } : Jvm.MethodName) prog_49_method_47_code (3 : Nat) (Option.some Jvm.ClassFile.FieldType.int)) ∈ lw_all := lw_g (lw_at lw_m19 98 rfl) rfl
theorem q4720 : (Jvm.Cond.methodLink "LinkedTongueModel" (695 : Nat) ({ cls := "LinkedTongueModel", name := "isName", desc := "()Z" } : Jvm.MethodName)) ∈ lw_all := lw_g (lw_at lw_m19 99 rfl) rfl
theorem q4721 : (Jvm.Cond.privateMethod ({ cls := "LinkedTongueModel", name := "isName", desc := "()Z" } : Jvm.MethodName)) ∈ lw_tbl := lw_at lw_m19 100 rfl
theorem q4722 : (Jvm.Cond.instanceMethod ({ cls := "LinkedTongueModel", name := "isName", desc := "()Z" } : Jvm.MethodName)) ∈ lw_all := lw_g (lw_at lw_m19 101 rfl) rfl
theorem q4723 : (Jvm.Cond.code ({ cls := "LinkedTongueModel", name := "isName", desc := "()Z" } : Jvm.MethodName) prog_49_method_38_code (1 : Nat) (Option.some Jvm.ClassFile.FieldType.boolean)) ∈ lw_all := lw_g (lw_at lw_m19 102 rfl) rfl
theorem q4724 : (Jvm.Cond.methodLink "LinkedTongueModel" (627 : Nat) ({ cls := "LinkedTongueModel", name := "isKeyword", desc := "()Z" } : Jvm.MethodName)) ∈ lw_all := lw_g (lw_at lw_m19 103 rfl) rfl
theorem q4725 : (Jvm.Cond.privateMethod ({ cls := "LinkedTongueModel", name := "isKeyword", desc := "()Z" } : Jvm.MethodName)) ∈ lw_tbl := lw_at lw_m19 104 rfl
theorem q4726 : (Jvm.Cond.instanceMethod ({ cls := "LinkedTongueModel", name := "isKeyword", desc := "()Z" } : Jvm.MethodName)) ∈ lw_all := lw_g (lw_at lw_m19 105 rfl) rfl
theorem q4727 : (Jvm.Cond.code ({ cls := "LinkedTongueModel", name := "isKeyword", desc := "()Z" } : Jvm.MethodName) prog_49_method_37_code (1 : Nat) (Option.some Jvm.ClassFile.FieldType.boolean)) ∈ lw_all := lw_g (lw_at lw_m19 106 rfl) rfl
theorem q4728 : (Jvm.Cond.stringRef "LinkedTongueModel" (625 : Nat) " var fun if else while return throw try catch new this null true false print make proto turn drop has kind host ") ∈ lw_tbl := lw_at lw_m19 107 rfl
theorem q4729 : (Jvm.Cond.methodLink "LinkedTongueModel" (698 : Nat) ({ cls := "LinkedTongueModel", name := "findName", desc := "([BII)I" } : Jvm.MethodName)) ∈ lw_all := lw_g (lw_at lw_m19 108 rfl) rfl
theorem q4730 : (Jvm.Cond.privateMethod ({ cls := "LinkedTongueModel", name := "findName", desc := "([BII)I" } : Jvm.MethodName)) ∈ lw_tbl := lw_at lw_m19 109 rfl
theorem q4731 : (Jvm.Cond.instanceMethod ({ cls := "LinkedTongueModel", name := "findName", desc := "([BII)I" } : Jvm.MethodName)) ∈ lw_all := lw_g (lw_at lw_m19 110 rfl) rfl
theorem q4732 : (Jvm.Cond.code ({ cls := "LinkedTongueModel", name := "findName", desc := "([BII)I" } : Jvm.MethodName) prog_49_method_34_code (7 : Nat) (Option.some Jvm.ClassFile.FieldType.int)) ∈ lw_all := lw_g (lw_at lw_m19 111 rfl) rfl
theorem q4733 : (Jvm.Cond.methodLink "LinkedTongueModel" (705 : Nat) ({ cls := "LinkedTongueModel$Part", name := "find", desc := "(I)I" } : Jvm.MethodName)) ∈ lw_all := lw_g (lw_at lw_m19 112 rfl) rfl
theorem q4737 : (Jvm.Cond.methodLink "LinkedTongueModel" (711 : Nat) ({ cls := "LinkedTongueModel", name := "takesName", desc := "()I" } : Jvm.MethodName)) ∈ lw_all := lw_g (lw_at lw_m19 116 rfl) rfl
theorem q4738 : (Jvm.Cond.privateMethod ({ cls := "LinkedTongueModel", name := "takesName", desc := "()I" } : Jvm.MethodName)) ∈ lw_tbl := lw_at lw_m19 117 rfl
theorem q4739 : (Jvm.Cond.instanceMethod ({ cls := "LinkedTongueModel", name := "takesName", desc := "()I" } : Jvm.MethodName)) ∈ lw_all := lw_g (lw_at lw_m19 118 rfl) rfl
theorem q4740 : (Jvm.Cond.code ({ cls := "LinkedTongueModel", name := "takesName", desc := "()I" } : Jvm.MethodName) prog_49_method_46_code (2 : Nat) (Option.some Jvm.ClassFile.FieldType.int)) ∈ lw_all := lw_g (lw_at lw_m19 119 rfl) rfl
theorem q4741 : (Jvm.Cond.methodLink "LinkedTongueModel" (702 : Nat) ({ cls := "LinkedTongueModel", name := "addName", desc := "([BII)I" } : Jvm.MethodName)) ∈ lw_all := lw_g (lw_at lw_m19 120 rfl) rfl
theorem q4742 : (Jvm.Cond.privateMethod ({ cls := "LinkedTongueModel", name := "addName", desc := "([BII)I" } : Jvm.MethodName)) ∈ lw_tbl := lw_at lw_m19 121 rfl
theorem q4743 : (Jvm.Cond.instanceMethod ({ cls := "LinkedTongueModel", name := "addName", desc := "([BII)I" } : Jvm.MethodName)) ∈ lw_all := lw_g (lw_at lw_m19 122 rfl) rfl
theorem q4744 : (Jvm.Cond.code ({ cls := "LinkedTongueModel", name := "addName", desc := "([BII)I" } : Jvm.MethodName) prog_49_method_35_code (5 : Nat) (Option.some Jvm.ClassFile.FieldType.int)) ∈ lw_all := lw_g (lw_at lw_m19 123 rfl) rfl
theorem q4745 : (Jvm.Cond.methodLink "LinkedTongueModel" (730 : Nat) ({ cls := "LinkedTongueModel", name := "value", desc := "()V" } : Jvm.MethodName)) ∈ lw_all := lw_g (lw_at lw_m19 124 rfl) rfl
theorem q4746 : (Jvm.Cond.privateMethod ({ cls := "LinkedTongueModel", name := "value", desc := "()V" } : Jvm.MethodName)) ∈ lw_tbl := lw_at lw_m19 125 rfl
theorem q4747 : (Jvm.Cond.instanceMethod ({ cls := "LinkedTongueModel", name := "value", desc := "()V" } : Jvm.MethodName)) ∈ lw_all := lw_g (lw_at lw_m19 126 rfl) rfl
theorem q4748 : (Jvm.Cond.code ({ cls := "LinkedTongueModel", name := "value", desc := "()V" } : Jvm.MethodName) prog_49_method_58_code (3 : Nat) (Option.none : Option Jvm.ClassFile.FieldType)) ∈ lw_all := lw_g (lw_at lw_m19 127 rfl) rfl
theorem q4749 : (Jvm.Cond.methodLink "LinkedTongueModel" (774 : Nat) ({ cls := "LinkedTongueModel", name := "or", desc := "()I" } : Jvm.MethodName)) ∈ lw_all := lw_g (lw_at lw_m19 128 rfl) rfl
theorem q4750 : (Jvm.Cond.privateMethod ({ cls := "LinkedTongueModel", name := "or", desc := "()I" } : Jvm.MethodName)) ∈ lw_tbl := lw_at lw_m19 129 rfl
theorem q4751 : (Jvm.Cond.instanceMethod ({ cls := "LinkedTongueModel", name := "or", desc := "()I" } : Jvm.MethodName)) ∈ lw_all := lw_g (lw_at lw_m19 130 rfl) rfl
theorem q4752 : (Jvm.Cond.code ({ cls := "LinkedTongueModel", name := "or", desc := "()I" } : Jvm.MethodName) prog_49_method_61_code (3 : Nat) (Option.some Jvm.ClassFile.FieldType.int)) ∈ lw_all := lw_g (lw_at lw_m19 131 rfl) rfl
theorem q4753 : (Jvm.Cond.methodLink "LinkedTongueModel" (791 : Nat) ({ cls := "LinkedTongueModel", name := "and", desc := "()I" } : Jvm.MethodName)) ∈ lw_all := lw_g (lw_at lw_m19 132 rfl) rfl
theorem q4754 : (Jvm.Cond.privateMethod ({ cls := "LinkedTongueModel", name := "and", desc := "()I" } : Jvm.MethodName)) ∈ lw_tbl := lw_at lw_m19 133 rfl
theorem q4755 : (Jvm.Cond.instanceMethod ({ cls := "LinkedTongueModel", name := "and", desc := "()I" } : Jvm.MethodName)) ∈ lw_all := lw_g (lw_at lw_m19 134 rfl) rfl
theorem q4756 : (Jvm.Cond.code ({ cls := "LinkedTongueModel", name := "and", desc := "()I" } : Jvm.MethodName) prog_49_method_62_code (3 : Nat) (Option.some Jvm.ClassFile.FieldType.int)) ∈ lw_all := lw_g (lw_at lw_m19 135 rfl) rfl
theorem q4757 : (Jvm.Cond.methodLink "LinkedTongueModel" (794 : Nat) ({ cls := "LinkedTongueModel", name := "binary", desc := "(I)I" } : Jvm.MethodName)) ∈ lw_all := lw_g (lw_at lw_m19 136 rfl) rfl
theorem q4758 : (Jvm.Cond.privateMethod ({ cls := "LinkedTongueModel", name := "binary", desc := "(I)I" } : Jvm.MethodName)) ∈ lw_tbl := lw_at lw_m19 137 rfl
theorem q4759 : (Jvm.Cond.instanceMethod ({ cls := "LinkedTongueModel", name := "binary", desc := "(I)I" } : Jvm.MethodName)) ∈ lw_all := lw_g (lw_at lw_m19 138 rfl) rfl
theorem q4760 : (Jvm.Cond.code ({ cls := "LinkedTongueModel", name := "binary", desc := "(I)I" } : Jvm.MethodName) prog_49_method_64_code (4 : Nat) (Option.some Jvm.ClassFile.FieldType.int)) ∈ lw_all := lw_g (lw_at lw_m19 139 rfl) rfl
theorem q4761 : (Jvm.Cond.methodLink "LinkedTongueModel" (797 : Nat) ({ cls := "LinkedTongueModel", name := "front", desc := "()I" } : Jvm.MethodName)) ∈ lw_all := lw_g (lw_at lw_m19 140 rfl) rfl
theorem q4762 : (Jvm.Cond.privateMethod ({ cls := "LinkedTongueModel", name := "front", desc := "()I" } : Jvm.MethodName)) ∈ lw_tbl := lw_at lw_m19 141 rfl
theorem q4763 : (Jvm.Cond.instanceMethod ({ cls := "LinkedTongueModel", name := "front", desc := "()I" } : Jvm.MethodName)) ∈ lw_all := lw_g (lw_at lw_m19 142 rfl) rfl
theorem q4764 : (Jvm.Cond.code ({ cls := "LinkedTongueModel", name := "front", desc := "()I" } : Jvm.MethodName) prog_49_method_65_code (2 : Nat) (Option.some Jvm.ClassFile.FieldType.int)) ∈ lw_all := lw_g (lw_at lw_m19 143 rfl) rfl
theorem q4765 : (Jvm.Cond.methodLink "LinkedTongueModel" (803 : Nat) ({ cls := "LinkedTongueModel", name := "behind", desc := "()I" } : Jvm.MethodName)) ∈ lw_all := lw_g (lw_at lw_m19 144 rfl) rfl
theorem q4766 : (Jvm.Cond.privateMethod ({ cls := "LinkedTongueModel", name := "behind", desc := "()I" } : Jvm.MethodName)) ∈ lw_tbl := lw_at lw_m19 145 rfl
theorem q4767 : (Jvm.Cond.instanceMethod ({ cls := "LinkedTongueModel", name := "behind", desc := "()I" } : Jvm.MethodName)) ∈ lw_all := lw_g (lw_at lw_m19 146 rfl) rfl
theorem q4768 : (Jvm.Cond.code ({ cls := "LinkedTongueModel", name := "behind", desc := "()I" } : Jvm.MethodName) prog_49_method_66_code (5 : Nat) (Option.some Jvm.ClassFile.FieldType.int)) ∈ lw_all := lw_g (lw_at lw_m19 147 rfl) rfl
theorem q4769 : (Jvm.Cond.methodLink "LinkedTongueModel" (806 : Nat) ({ cls := "LinkedTongueModel", name := "first", desc := "(Z)I" } : Jvm.MethodName)) ∈ lw_all := lw_g (lw_at lw_m19 148 rfl) rfl
theorem q4770 : (Jvm.Cond.privateMethod ({ cls := "LinkedTongueModel", name := "first", desc := "(Z)I" } : Jvm.MethodName)) ∈ lw_tbl := lw_at lw_m19 149 rfl
theorem q4771 : (Jvm.Cond.instanceMethod ({ cls := "LinkedTongueModel", name := "first", desc := "(Z)I" } : Jvm.MethodName)) ∈ lw_all := lw_g (lw_at lw_m19 150 rfl) rfl
theorem q4772 : (Jvm.Cond.code ({ cls := "LinkedTongueModel", name := "first", desc := "(Z)I" } : Jvm.MethodName) prog_49_method_69_code (4 : Nat) (Option.some Jvm.ClassFile.FieldType.int)) ∈ lw_all := lw_g (lw_at lw_m19 151 rfl) rfl
theorem q4773 : (Jvm.Cond.methodLink "LinkedTongueModel" (692 : Nat) ({ cls := "LinkedTongueModel", name := "emits", desc := "(III)V" } : Jvm.MethodName)) ∈ lw_all := lw_g (lw_at lw_m19 152 rfl) rfl
theorem q4774 : (Jvm.Cond.privateMethod ({ cls := "LinkedTongueModel", name := "emits", desc := "(III)V" } : Jvm.MethodName)) ∈ lw_tbl := lw_at lw_m19 153 rfl
theorem q4775 : (Jvm.Cond.instanceMethod ({ cls := "LinkedTongueModel", name := "emits", desc := "(III)V" } : Jvm.MethodName)) ∈ lw_all := lw_g (lw_at lw_m19 154 rfl) rfl
theorem q4776 : (Jvm.Cond.code ({ cls := "LinkedTongueModel", name := "emits", desc := "(III)V" } : Jvm.MethodName) prog_49_method_44_code (4 : Nat) (Option.none : Option Jvm.ClassFile.FieldType)) ∈ lw_all := lw_g (lw_at lw_m19 155 rfl) rfl
theorem q4777 : (Jvm.Cond.methodLink "LinkedTongueModel" (685 : Nat) ({ cls := "LinkedTongueModel$Part", name := "add", desc := "(IIIZ)V" } : Jvm.MethodName)) ∈ lw_all := lw_g (lw_at lw_m19 156 rfl) rfl
theorem q4785 : (Jvm.Cond.methodLink "LinkedTongueModel" (814 : Nat) ({ cls := "LinkedTongueModel", name := "takesText", desc := "()I" } : Jvm.MethodName)) ∈ lw_all := lw_g (lw_at lw_m19 164 rfl) rfl
theorem q4786 : (Jvm.Cond.privateMethod ({ cls := "LinkedTongueModel", name := "takesText", desc := "()I" } : Jvm.MethodName)) ∈ lw_tbl := lw_at lw_m19 165 rfl
theorem q4787 : (Jvm.Cond.instanceMethod ({ cls := "LinkedTongueModel", name := "takesText", desc := "()I" } : Jvm.MethodName)) ∈ lw_all := lw_g (lw_at lw_m19 166 rfl) rfl
theorem q4788 : (Jvm.Cond.code ({ cls := "LinkedTongueModel", name := "takesText", desc := "()I" } : Jvm.MethodName) prog_49_method_70_code (4 : Nat) (Option.some Jvm.ClassFile.FieldType.int)) ∈ lw_all := lw_g (lw_at lw_m19 167 rfl) rfl
theorem q4789 : (Jvm.Cond.methodLink "LinkedTongueModel" (719 : Nat) ({ cls := "LinkedTongueModel", name := "opens", desc := "(I)V" } : Jvm.MethodName)) ∈ lw_all := lw_g (lw_at lw_m19 168 rfl) rfl
theorem q4790 : (Jvm.Cond.privateMethod ({ cls := "LinkedTongueModel", name := "opens", desc := "(I)V" } : Jvm.MethodName)) ∈ lw_tbl := lw_at lw_m19 169 rfl
theorem q4791 : (Jvm.Cond.instanceMethod ({ cls := "LinkedTongueModel", name := "opens", desc := "(I)V" } : Jvm.MethodName)) ∈ lw_all := lw_g (lw_at lw_m19 170 rfl) rfl
theorem q4792 : (Jvm.Cond.code ({ cls := "LinkedTongueModel", name := "opens", desc := "(I)V" } : Jvm.MethodName) prog_49_method_48_code (2 : Nat) (Option.none : Option Jvm.ClassFile.FieldType)) ∈ lw_all := lw_g (lw_at lw_m19 171 rfl) rfl
theorem q4793 : (Jvm.Cond.methodLink "LinkedTongueModel" (716 : Nat) ({ cls := "LinkedTongueModel", name := "deeper", desc := "()V" } : Jvm.MethodName)) ∈ lw_all := lw_g (lw_at lw_m19 172 rfl) rfl
theorem q4794 : (Jvm.Cond.privateMethod ({ cls := "LinkedTongueModel", name := "deeper", desc := "()V" } : Jvm.MethodName)) ∈ lw_tbl := lw_at lw_m19 173 rfl
theorem q4795 : (Jvm.Cond.instanceMethod ({ cls := "LinkedTongueModel", name := "deeper", desc := "()V" } : Jvm.MethodName)) ∈ lw_all := lw_g (lw_at lw_m19 174 rfl) rfl
theorem q4796 : (Jvm.Cond.code ({ cls := "LinkedTongueModel", name := "deeper", desc := "()V" } : Jvm.MethodName) prog_49_method_49_code (1 : Nat) (Option.none : Option Jvm.ClassFile.FieldType)) ∈ lw_all := lw_g (lw_at lw_m19 175 rfl) rfl
theorem q4797 : (Jvm.Cond.methodLink "LinkedTongueModel" (722 : Nat) ({ cls := "LinkedTongueModel", name := "closes", desc := "(I)V" } : Jvm.MethodName)) ∈ lw_all := lw_g (lw_at lw_m19 176 rfl) rfl
theorem q4798 : (Jvm.Cond.privateMethod ({ cls := "LinkedTongueModel", name := "closes", desc := "(I)V" } : Jvm.MethodName)) ∈ lw_tbl := lw_at lw_m19 177 rfl
theorem q4799 : (Jvm.Cond.instanceMethod ({ cls := "LinkedTongueModel", name := "closes", desc := "(I)V" } : Jvm.MethodName)) ∈ lw_all := lw_g (lw_at lw_m19 178 rfl) rfl
theorem q4800 : (Jvm.Cond.code ({ cls := "LinkedTongueModel", name := "closes", desc := "(I)V" } : Jvm.MethodName) prog_49_method_50_code (2 : Nat) (Option.none : Option Jvm.ClassFile.FieldType)) ∈ lw_all := lw_g (lw_at lw_m19 179 rfl) rfl
theorem q4801 : (Jvm.Cond.methodLink "LinkedTongueModel" (817 : Nat) ({ cls := "LinkedTongueModel", name := "object", desc := "()V" } : Jvm.MethodName)) ∈ lw_all := lw_g (lw_at lw_m19 180 rfl) rfl
theorem q4802 : (Jvm.Cond.privateMethod ({ cls := "LinkedTongueModel", name := "object", desc := "()V" } : Jvm.MethodName)) ∈ lw_tbl := lw_at lw_m19 181 rfl
theorem q4803 : (Jvm.Cond.instanceMethod ({ cls := "LinkedTongueModel", name := "object", desc := "()V" } : Jvm.MethodName)) ∈ lw_all := lw_g (lw_at lw_m19 182 rfl) rfl
theorem q4804 : (Jvm.Cond.code ({ cls := "LinkedTongueModel", name := "object", desc := "()V" } : Jvm.MethodName) prog_49_method_71_code (3 : Nat) (Option.none : Option Jvm.ClassFile.FieldType)) ∈ lw_all := lw_g (lw_at lw_m19 183 rfl) rfl
theorem q4805 : (Jvm.Cond.methodLink "LinkedTongueModel" (786 : Nat) ({ cls := "LinkedTongueModel", name := "newSite", desc := "(III)V" } : Jvm.MethodName)) ∈ lw_all := lw_g (lw_at lw_m19 184 rfl) rfl
theorem q4806 : (Jvm.Cond.privateMethod ({ cls := "LinkedTongueModel", name := "newSite", desc := "(III)V" } : Jvm.MethodName)) ∈ lw_tbl := lw_at lw_m19 185 rfl
theorem q4807 : (Jvm.Cond.instanceMethod ({ cls := "LinkedTongueModel", name := "newSite", desc := "(III)V" } : Jvm.MethodName)) ∈ lw_all := lw_g (lw_at lw_m19 186 rfl) rfl
theorem q4808 : (Jvm.Cond.code ({ cls := "LinkedTongueModel", name := "newSite", desc := "(III)V" } : Jvm.MethodName) prog_49_method_59_code (4 : Nat) (Option.none : Option Jvm.ClassFile.FieldType)) ∈ lw_all := lw_g (lw_at lw_m19 187 rfl) rfl
theorem q4809 : (Jvm.Cond.methodLink "LinkedTongueModel" (789 : Nat) ({ cls := "LinkedTongueModel$Ints", name := "add", desc := "(I)V" } : Jvm.MethodName)) ∈ lw_all := lw_g (lw_at lw_m19 188 rfl) rfl
theorem q4810 : (Jvm.Cond.methodLink "LinkedTongueModel" (820 : Nat) ({ cls := "LinkedTongueModel", name := "word", desc := "(Z)V" } : Jvm.MethodName)) ∈ lw_all := lw_g (lw_at lw_m19 189 rfl) rfl
theorem q4811 : (Jvm.Cond.privateMethod ({ cls := "LinkedTongueModel", name := "word", desc := "(Z)V" } : Jvm.MethodName)) ∈ lw_tbl := lw_at lw_m19 190 rfl
theorem q4812 : (Jvm.Cond.instanceMethod ({ cls := "LinkedTongueModel", name := "word", desc := "(Z)V" } : Jvm.MethodName)) ∈ lw_all := lw_g (lw_at lw_m19 191 rfl) rfl
theorem q4813 : (Jvm.Cond.code ({ cls := "LinkedTongueModel", name := "word", desc := "(Z)V" } : Jvm.MethodName) prog_49_method_72_code (3 : Nat) (Option.none : Option Jvm.ClassFile.FieldType)) ∈ lw_all := lw_g (lw_at lw_m19 192 rfl) rfl
theorem q4814 : (Jvm.Cond.stringRef "LinkedTongueModel" (823 : Nat) "this") ∈ lw_tbl := lw_at lw_m19 193 rfl
theorem q4815 : (Jvm.Cond.stringRef "LinkedTongueModel" (825 : Nat) "null") ∈ lw_tbl := lw_at lw_m19 194 rfl
theorem q4816 : (Jvm.Cond.stringRef "LinkedTongueModel" (827 : Nat) "false") ∈ lw_tbl := lw_at lw_m19 195 rfl
theorem q4817 : (Jvm.Cond.stringRef "LinkedTongueModel" (829 : Nat) "true") ∈ lw_tbl := lw_at lw_m19 196 rfl
theorem q4818 : (Jvm.Cond.stringRef "LinkedTongueModel" (733 : Nat) "fun") ∈ lw_tbl := lw_at lw_m19 197 rfl
theorem q4819 : (Jvm.Cond.methodLink "LinkedTongueModel" (735 : Nat) ({ cls := "LinkedTongueModel", name := "readsFunction", desc := "()V" } : Jvm.MethodName)) ∈ lw_all := lw_g (lw_at lw_m19 198 rfl) rfl
theorem q4820 : (Jvm.Cond.privateMethod ({ cls := "LinkedTongueModel", name := "readsFunction", desc := "()V" } : Jvm.MethodName)) ∈ lw_tbl := lw_at lw_m19 199 rfl
theorem q4821 : (Jvm.Cond.instanceMethod ({ cls := "LinkedTongueModel", name := "readsFunction", desc := "()V" } : Jvm.MethodName)) ∈ lw_all := lw_g (lw_at lw_m19 200 rfl) rfl
theorem q4822 : (Jvm.Cond.code ({ cls := "LinkedTongueModel", name := "readsFunction", desc := "()V" } : Jvm.MethodName) prog_49_method_56_code (3 : Nat) (Option.none : Option Jvm.ClassFile.FieldType)) ∈ lw_all := lw_g (lw_at lw_m19 201 rfl) rfl
theorem q4823 : (Jvm.Cond.methodLink "LinkedTongueModel" (770 : Nat) ({ cls := "LinkedTongueModel", name := "parameter", desc := "()V" } : Jvm.MethodName)) ∈ lw_all := lw_g (lw_at lw_m19 202 rfl) rfl
theorem q4824 : (Jvm.Cond.privateMethod ({ cls := "LinkedTongueModel", name := "parameter", desc := "()V" } : Jvm.MethodName)) ∈ lw_tbl := lw_at lw_m19 203 rfl
theorem q4825 : (Jvm.Cond.instanceMethod ({ cls := "LinkedTongueModel", name := "parameter", desc := "()V" } : Jvm.MethodName)) ∈ lw_all := lw_g (lw_at lw_m19 204 rfl) rfl
theorem q4826 : (Jvm.Cond.code ({ cls := "LinkedTongueModel", name := "parameter", desc := "()V" } : Jvm.MethodName) prog_49_method_57_code (2 : Nat) (Option.none : Option Jvm.ClassFile.FieldType)) ∈ lw_all := lw_g (lw_at lw_m19 205 rfl) rfl
theorem q4827 : (Jvm.Cond.methodLink "LinkedTongueModel" (748 : Nat) ({ cls := "LinkedTongueModel", name := "block", desc := "()V" } : Jvm.MethodName)) ∈ lw_all := lw_g (lw_at lw_m19 206 rfl) rfl
theorem q4828 : (Jvm.Cond.privateMethod ({ cls := "LinkedTongueModel", name := "block", desc := "()V" } : Jvm.MethodName)) ∈ lw_tbl := lw_at lw_m19 207 rfl
theorem q4829 : (Jvm.Cond.instanceMethod ({ cls := "LinkedTongueModel", name := "block", desc := "()V" } : Jvm.MethodName)) ∈ lw_all := lw_g (lw_at lw_m19 208 rfl) rfl
theorem q4830 : (Jvm.Cond.code ({ cls := "LinkedTongueModel", name := "block", desc := "()V" } : Jvm.MethodName) prog_49_method_51_code (1 : Nat) (Option.none : Option Jvm.ClassFile.FieldType)) ∈ lw_all := lw_g (lw_at lw_m19 209 rfl) rfl
theorem q4831 : (Jvm.Cond.methodLink "LinkedTongueModel" (673 : Nat) ({ cls := "LinkedTongueModel", name := "ends", desc := "()V" } : Jvm.MethodName)) ∈ lw_all := lw_g (lw_at lw_m19 210 rfl) rfl
theorem q4832 : (Jvm.Cond.privateMethod ({ cls := "LinkedTongueModel", name := "ends", desc := "()V" } : Jvm.MethodName)) ∈ lw_tbl := lw_at lw_m19 211 rfl
theorem q4833 : (Jvm.Cond.instanceMethod ({ cls := "LinkedTongueModel", name := "ends", desc := "()V" } : Jvm.MethodName)) ∈ lw_all := lw_g (lw_at lw_m19 212 rfl) rfl
theorem q4834 : (Jvm.Cond.code ({ cls := "LinkedTongueModel", name := "ends", desc := "()V" } : Jvm.MethodName) prog_49_method_45_code (1 : Nat) (Option.none : Option Jvm.ClassFile.FieldType)) ∈ lw_all := lw_g (lw_at lw_m19 213 rfl) rfl
theorem q4835 : (Jvm.Cond.methodLink "LinkedTongueModel" (831 : Nat) ({ cls := "LinkedTongueModel", name := "maker", desc := "()V" } : Jvm.MethodName)) ∈ lw_all := lw_g (lw_at lw_m19 214 rfl) rfl
theorem q4836 : (Jvm.Cond.privateMethod ({ cls := "LinkedTongueModel", name := "maker", desc := "()V" } : Jvm.MethodName)) ∈ lw_tbl := lw_at lw_m19 215 rfl
theorem q4837 : (Jvm.Cond.instanceMethod ({ cls := "LinkedTongueModel", name := "maker", desc := "()V" } : Jvm.MethodName)) ∈ lw_all := lw_g (lw_at lw_m19 216 rfl) rfl
theorem q4838 : (Jvm.Cond.code ({ cls := "LinkedTongueModel", name := "maker", desc := "()V" } : Jvm.MethodName) prog_49_method_73_code (3 : Nat) (Option.none : Option Jvm.ClassFile.FieldType)) ∈ lw_all := lw_g (lw_at lw_m19 217 rfl) rfl
theorem q4839 : (Jvm.Cond.methodLink "LinkedTongueModel" (811 : Nat) ({ cls := "LinkedTongueModel", name := "element", desc := "()V" } : Jvm.MethodName)) ∈ lw_all := lw_g (lw_at lw_m19 218 rfl) rfl
theorem q4840 : (Jvm.Cond.privateMethod ({ cls := "LinkedTongueModel", name := "element", desc := "()V" } : Jvm.MethodName)) ∈ lw_tbl := lw_at lw_m19 219 rfl
theorem q4841 : (Jvm.Cond.instanceMethod ({ cls := "LinkedTongueModel", name := "element", desc := "()V" } : Jvm.MethodName)) ∈ lw_all := lw_g (lw_at lw_m19 220 rfl) rfl
theorem q4842 : (Jvm.Cond.code ({ cls := "LinkedTongueModel", name := "element", desc := "()V" } : Jvm.MethodName) prog_49_method_67_code (1 : Nat) (Option.none : Option Jvm.ClassFile.FieldType)) ∈ lw_all := lw_g (lw_at lw_m19 221 rfl) rfl
theorem q4843 : (Jvm.Cond.methodLink "LinkedTongueModel" (808 : Nat) ({ cls := "LinkedTongueModel", name := "values", desc := "()I" } : Jvm.MethodName)) ∈ lw_all := lw_g (lw_at lw_m19 222 rfl) rfl
theorem q4844 : (Jvm.Cond.privateMethod ({ cls := "LinkedTongueModel", name := "values", desc := "()I" } : Jvm.MethodName)) ∈ lw_tbl := lw_at lw_m19 223 rfl
theorem q4845 : (Jvm.Cond.instanceMethod ({ cls := "LinkedTongueModel", name := "values", desc := "()I" } : Jvm.MethodName)) ∈ lw_all := lw_g (lw_at lw_m19 224 rfl) rfl
theorem q4846 : (Jvm.Cond.code ({ cls := "LinkedTongueModel", name := "values", desc := "()I" } : Jvm.MethodName) prog_49_method_68_code (4 : Nat) (Option.some Jvm.ClassFile.FieldType.int)) ∈ lw_all := lw_g (lw_at lw_m19 225 rfl) rfl
theorem q4847 : (Jvm.Cond.stringRef "LinkedTongueModel" (834 : Nat) " print make proto turn drop has kind host ") ∈ lw_tbl := lw_at lw_m19 226 rfl
theorem q4848 : (Jvm.Cond.methodLink "LinkedTongueModel" (836 : Nat) ({ cls := "LinkedTongueModel", name := "builtin", desc := "(I)V" } : Jvm.MethodName)) ∈ lw_all := lw_g (lw_at lw_m19 227 rfl) rfl
theorem q4849 : (Jvm.Cond.privateMethod ({ cls := "LinkedTongueModel", name := "builtin", desc := "(I)V" } : Jvm.MethodName)) ∈ lw_tbl := lw_at lw_m19 228 rfl
theorem q4850 : (Jvm.Cond.instanceMethod ({ cls := "LinkedTongueModel", name := "builtin", desc := "(I)V" } : Jvm.MethodName)) ∈ lw_all := lw_g (lw_at lw_m19 229 rfl) rfl
theorem q4851 : (Jvm.Cond.code ({ cls := "LinkedTongueModel", name := "builtin", desc := "(I)V" } : Jvm.MethodName) prog_49_method_74_code (4 : Nat) (Option.none : Option Jvm.ClassFile.FieldType)) ∈ lw_all := lw_g (lw_at lw_m19 230 rfl) rfl
theorem q4852 : (Jvm.Cond.fieldLink "LinkedTongueModel" (839 : Nat) "LinkedTongueModel" "WANTS" "[I") ∈ lw_all := lw_g (lw_at lw_m19 231 rfl) rfl
theorem q4853 : (Jvm.Cond.laysStatic "LinkedTongueModel" "WANTS" "[I") ∈ lw_tbl := lw_at lw_m19 232 rfl
theorem q4854 : (Jvm.Cond.methodLink "LinkedTongueModel" (800 : Nat) ({ cls := "LinkedTongueModel", name := "operator", desc := "(I)I" } : Jvm.MethodName)) ∈ lw_all := lw_g (lw_at lw_m19 233 rfl) rfl
theorem q4855 : (Jvm.Cond.privateMethod ({ cls := "LinkedTongueModel", name := "operator", desc := "(I)I" } : Jvm.MethodName)) ∈ lw_tbl := lw_at lw_m19 234 rfl
theorem q4856 : (Jvm.Cond.instanceMethod ({ cls := "LinkedTongueModel", name := "operator", desc := "(I)I" } : Jvm.MethodName)) ∈ lw_all := lw_g (lw_at lw_m19 235 rfl) rfl
theorem q4857 : (Jvm.Cond.code ({ cls := "LinkedTongueModel", name := "operator", desc := "(I)I" } : Jvm.MethodName) prog_49_method_63_code (2 : Nat) (Option.some Jvm.ClassFile.FieldType.int)) ∈ lw_all := lw_g (lw_at lw_m19 236 rfl) rfl
theorem q4858 : (Jvm.Cond.methodLink "LinkedTongueModel" (745 : Nat) ({ cls := "LinkedTongueModel$Part", name := "here", desc := "()I" } : Jvm.MethodName)) ∈ lw_all := lw_g (lw_at lw_m19 237 rfl) rfl
theorem q4862 : (Jvm.Cond.methodLink "LinkedTongueModel" (754 : Nat) ({ cls := "LinkedTongueModel$Ints", name := "set", desc := "(II)V" } : Jvm.MethodName)) ∈ lw_all := lw_g (lw_at lw_m20 1 rfl) rfl
theorem q4866 : (Jvm.Cond.methodLink "LinkedTongueModel" (780 : Nat) ({ cls := "LinkedTongueModel", name := "dropsSite", desc := "()V" } : Jvm.MethodName)) ∈ lw_all := lw_g (lw_at lw_m20 5 rfl) rfl
theorem q4867 : (Jvm.Cond.privateMethod ({ cls := "LinkedTongueModel", name := "dropsSite", desc := "()V" } : Jvm.MethodName)) ∈ lw_tbl := lw_at lw_m20 6 rfl
theorem q4868 : (Jvm.Cond.instanceMethod ({ cls := "LinkedTongueModel", name := "dropsSite", desc := "()V" } : Jvm.MethodName)) ∈ lw_all := lw_g (lw_at lw_m20 7 rfl) rfl
theorem q4869 : (Jvm.Cond.code ({ cls := "LinkedTongueModel", name := "dropsSite", desc := "()V" } : Jvm.MethodName) prog_49_method_60_code (1 : Nat) (Option.none : Option Jvm.ClassFile.FieldType)) ∈ lw_all := lw_g (lw_at lw_m20 8 rfl) rfl
theorem q4870 : (Jvm.Cond.methodLink "LinkedTongueModel" (783 : Nat) ({ cls := "LinkedTongueModel$Part", name := "drop", desc := "()V" } : Jvm.MethodName)) ∈ lw_all := lw_g (lw_at lw_m20 9 rfl) rfl
theorem q4874 : (Jvm.Cond.stringRef "LinkedTongueModel" (738 : Nat) "if") ∈ lw_tbl := lw_at lw_m20 13 rfl
theorem q4875 : (Jvm.Cond.methodLink "LinkedTongueModel" (740 : Nat) ({ cls := "LinkedTongueModel", name := "choice", desc := "()V" } : Jvm.MethodName)) ∈ lw_all := lw_g (lw_at lw_m20 14 rfl) rfl
theorem q4876 : (Jvm.Cond.privateMethod ({ cls := "LinkedTongueModel", name := "choice", desc := "()V" } : Jvm.MethodName)) ∈ lw_tbl := lw_at lw_m20 15 rfl
theorem q4877 : (Jvm.Cond.instanceMethod ({ cls := "LinkedTongueModel", name := "choice", desc := "()V" } : Jvm.MethodName)) ∈ lw_all := lw_g (lw_at lw_m20 16 rfl) rfl
theorem q4878 : (Jvm.Cond.code ({ cls := "LinkedTongueModel", name := "choice", desc := "()V" } : Jvm.MethodName) prog_49_method_53_code (5 : Nat) (Option.none : Option Jvm.ClassFile.FieldType)) ∈ lw_all := lw_g (lw_at lw_m20 17 rfl) rfl
theorem q4879 : (Jvm.Cond.stringRef "LinkedTongueModel" (743 : Nat) "while") ∈ lw_tbl := lw_at lw_m20 18 rfl
theorem q4880 : (Jvm.Cond.stringRef "LinkedTongueModel" (757 : Nat) "return") ∈ lw_tbl := lw_at lw_m20 19 rfl
theorem q4881 : (Jvm.Cond.stringRef "LinkedTongueModel" (759 : Nat) "throw") ∈ lw_tbl := lw_at lw_m20 20 rfl
theorem q4882 : (Jvm.Cond.methodLink "LinkedTongueModel" (761 : Nat) ({ cls := "LinkedTongueModel", name := "leaves", desc := "()V" } : Jvm.MethodName)) ∈ lw_all := lw_g (lw_at lw_m20 21 rfl) rfl
theorem q4883 : (Jvm.Cond.privateMethod ({ cls := "LinkedTongueModel", name := "leaves", desc := "()V" } : Jvm.MethodName)) ∈ lw_tbl := lw_at lw_m20 22 rfl
theorem q4884 : (Jvm.Cond.instanceMethod ({ cls := "LinkedTongueModel", name := "leaves", desc := "()V" } : Jvm.MethodName)) ∈ lw_all := lw_g (lw_at lw_m20 23 rfl) rfl
theorem q4885 : (Jvm.Cond.code ({ cls := "LinkedTongueModel", name := "leaves", desc := "()V" } : Jvm.MethodName) prog_49_method_54_code (2 : Nat) (Option.none : Option Jvm.ClassFile.FieldType)) ∈ lw_all := lw_g (lw_at lw_m20 24 rfl) rfl
theorem q4886 : (Jvm.Cond.stringRef "LinkedTongueModel" (764 : Nat) "try") ∈ lw_tbl := lw_at lw_m20 25 rfl
theorem q4887 : (Jvm.Cond.methodLink "LinkedTongueModel" (766 : Nat) ({ cls := "LinkedTongueModel", name := "tries", desc := "()V" } : Jvm.MethodName)) ∈ lw_all := lw_g (lw_at lw_m20 26 rfl) rfl
theorem q4888 : (Jvm.Cond.privateMethod ({ cls := "LinkedTongueModel", name := "tries", desc := "()V" } : Jvm.MethodName)) ∈ lw_tbl := lw_at lw_m20 27 rfl
theorem q4889 : (Jvm.Cond.instanceMethod ({ cls := "LinkedTongueModel", name := "tries", desc := "()V" } : Jvm.MethodName)) ∈ lw_all := lw_g (lw_at lw_m20 28 rfl) rfl
theorem q4890 : (Jvm.Cond.code ({ cls := "LinkedTongueModel", name := "tries", desc := "()V" } : Jvm.MethodName) prog_49_method_55_code (4 : Nat) (Option.none : Option Jvm.ClassFile.FieldType)) ∈ lw_all := lw_g (lw_at lw_m20 29 rfl) rfl
theorem q4891 : (Jvm.Cond.methodLink "LinkedTongueModel" (622 : Nat) ({ cls := "LinkedTongueModel", name := "keeps", desc := "()V" } : Jvm.MethodName)) ∈ lw_all := lw_g (lw_at lw_m20 30 rfl) rfl
theorem q4892 : (Jvm.Cond.privateMethod ({ cls := "LinkedTongueModel", name := "keeps", desc := "()V" } : Jvm.MethodName)) ∈ lw_tbl := lw_at lw_m20 31 rfl
theorem q4893 : (Jvm.Cond.instanceMethod ({ cls := "LinkedTongueModel", name := "keeps", desc := "()V" } : Jvm.MethodName)) ∈ lw_all := lw_g (lw_at lw_m20 32 rfl) rfl
theorem q4894 : (Jvm.Cond.code ({ cls := "LinkedTongueModel", name := "keeps", desc := "()V" } : Jvm.MethodName) prog_49_method_75_code (3 : Nat) (Option.none : Option Jvm.ClassFile.FieldType)) ∈ lw_all := lw_g (lw_at lw_m20 33 rfl) rfl
theorem q4895 : (Jvm.Cond.methodLink "LinkedTongueModel" (848 : Nat) ({ cls := "LinkedTongueModel", name := "keepsPart", desc := "(I)V" } : Jvm.MethodName)) ∈ lw_all := lw_g (lw_at lw_m20 34 rfl) rfl
theorem q4896 : (Jvm.Cond.privateMethod ({ cls := "LinkedTongueModel", name := "keepsPart", desc := "(I)V" } : Jvm.MethodName)) ∈ lw_tbl := lw_at lw_m20 35 rfl
theorem q4897 : (Jvm.Cond.instanceMethod ({ cls := "LinkedTongueModel", name := "keepsPart", desc := "(I)V" } : Jvm.MethodName)) ∈ lw_all := lw_g (lw_at lw_m20 36 rfl) rfl
theorem q4898 : (Jvm.Cond.code ({ cls := "LinkedTongueModel", name := "keepsPart", desc := "(I)V" } : Jvm.MethodName) prog_49_method_76_code (11 : Nat) (Option.none : Option Jvm.ClassFile.FieldType)) ∈ lw_all := lw_g (lw_at lw_m20 37 rfl) rfl
theorem q4899 : (Jvm.Cond.methodLink "LinkedTongueModel" (859 : Nat) ({ cls := "LinkedTongueModel", name := "keepsSite", desc := "(III)V" } : Jvm.MethodName)) ∈ lw_all := lw_g (lw_at lw_m20 38 rfl) rfl
theorem q4900 : (Jvm.Cond.privateMethod ({ cls := "LinkedTongueModel", name := "keepsSite", desc := "(III)V" } : Jvm.MethodName)) ∈ lw_tbl := lw_at lw_m20 39 rfl
theorem q4901 : (Jvm.Cond.instanceMethod ({ cls := "LinkedTongueModel", name := "keepsSite", desc := "(III)V" } : Jvm.MethodName)) ∈ lw_all := lw_g (lw_at lw_m20 40 rfl) rfl
theorem q4902 : (Jvm.Cond.code ({ cls := "LinkedTongueModel", name := "keepsSite", desc := "(III)V" } : Jvm.MethodName) prog_49_method_77_code (6 : Nat) (Option.none : Option Jvm.ClassFile.FieldType)) ∈ lw_all := lw_g (lw_at lw_m20 41 rfl) rfl
theorem q4904 : (Jvm.Cond.instanceMethod ({ cls := "LinkedTongueModel", name := "function", desc := "(II)I" } : Jvm.MethodName)) ∈ lw_all := lw_g (lw_at lw_m20 43 rfl) rfl
theorem q4905 : (Jvm.Cond.selects "LinkedTongueModel" ({ cls := "LinkedTongueModel", name := "function", desc := "(II)I" } : Jvm.MethodName) ({ cls := "LinkedTongueModel", name := "function", desc := "(II)I" } : Jvm.MethodName)) ∈ lw_all := lw_g (lw_at lw_m20 44 rfl) rfl
theorem q4906 : (Jvm.Cond.code ({ cls := "LinkedTongueModel", name := "function", desc := "(II)I" } : Jvm.MethodName) prog_49_method_78_code (3 : Nat) (Option.some Jvm.ClassFile.FieldType.int)) ∈ lw_all := lw_g (lw_at lw_m20 45 rfl) rfl
theorem q4908 : (Jvm.Cond.instanceMethod ({ cls := "LinkedTongueModel", name := "code", desc := "(III)I" } : Jvm.MethodName)) ∈ lw_all := lw_g (lw_at lw_m20 47 rfl) rfl
theorem q4909 : (Jvm.Cond.selects "LinkedTongueModel" ({ cls := "LinkedTongueModel", name := "code", desc := "(III)I" } : Jvm.MethodName) ({ cls := "LinkedTongueModel", name := "code", desc := "(III)I" } : Jvm.MethodName)) ∈ lw_all := lw_g (lw_at lw_m20 48 rfl) rfl
theorem q4910 : (Jvm.Cond.code ({ cls := "LinkedTongueModel", name := "code", desc := "(III)I" } : Jvm.MethodName) prog_49_method_79_code (5 : Nat) (Option.some Jvm.ClassFile.FieldType.int)) ∈ lw_all := lw_g (lw_at lw_m20 49 rfl) rfl
theorem q4912 : (Jvm.Cond.instanceMethod ({ cls := "LinkedTongueModel", name := "name", desc := "(II)I" } : Jvm.MethodName)) ∈ lw_all := lw_g (lw_at lw_m20 51 rfl) rfl
theorem q4913 : (Jvm.Cond.selects "LinkedTongueModel" ({ cls := "LinkedTongueModel", name := "name", desc := "(II)I" } : Jvm.MethodName) ({ cls := "LinkedTongueModel", name := "name", desc := "(II)I" } : Jvm.MethodName)) ∈ lw_all := lw_g (lw_at lw_m20 52 rfl) rfl
theorem q4914 : (Jvm.Cond.code ({ cls := "LinkedTongueModel", name := "name", desc := "(II)I" } : Jvm.MethodName) prog_49_method_80_code (3 : Nat) (Option.some Jvm.ClassFile.FieldType.int)) ∈ lw_all := lw_g (lw_at lw_m20 53 rfl) rfl
theorem q4916 : (Jvm.Cond.instanceMethod ({ cls := "LinkedTongueModel", name := "start", desc := "(II)Z" } : Jvm.MethodName)) ∈ lw_all := lw_g (lw_at lw_m20 55 rfl) rfl
theorem q4917 : (Jvm.Cond.selects "LinkedTongueModel" ({ cls := "LinkedTongueModel", name := "start", desc := "(II)Z" } : Jvm.MethodName) ({ cls := "LinkedTongueModel", name := "start", desc := "(II)Z" } : Jvm.MethodName)) ∈ lw_all := lw_g (lw_at lw_m20 56 rfl) rfl
theorem q4918 : (Jvm.Cond.code ({ cls := "LinkedTongueModel", name := "start", desc := "(II)Z" } : Jvm.MethodName) prog_49_method_137_code (3 : Nat) (Option.some Jvm.ClassFile.FieldType.boolean)) ∈ lw_all := lw_g (lw_at lw_m20 57 rfl) rfl
theorem q4919 : (Jvm.Cond.methodLink "LinkedTongueModel" (1067 : Nat) ({ cls := "LinkedTongueModel", name := "hasRoomForCall", desc := "(II)Z" } : Jvm.MethodName)) ∈ lw_all := lw_g (lw_at lw_m20 58 rfl) rfl
theorem q4920 : (Jvm.Cond.privateMethod ({ cls := "LinkedTongueModel", name := "hasRoomForCall", desc := "(II)Z" } : Jvm.MethodName)) ∈ lw_tbl := lw_at lw_m20 59 rfl
theorem q4921 : (Jvm.Cond.instanceMethod ({ cls := "LinkedTongueModel", name := "hasRoomForCall", desc := "(II)Z" } : Jvm.MethodName)) ∈ lw_all := lw_g (lw_at lw_m20 60 rfl) rfl
theorem q4922 : (Jvm.Cond.code ({ cls := "LinkedTongueModel", name := "hasRoomForCall", desc := "(II)Z" } : Jvm.MethodName) prog_49_method_135_code (3 : Nat) (Option.some Jvm.ClassFile.FieldType.boolean)) ∈ lw_all := lw_g (lw_at lw_m20 61 rfl) rfl
theorem q4923 : (Jvm.Cond.methodLink "LinkedTongueModel" (1064 : Nat) ({ cls := "LinkedTongueModel", name := "hasRoomFor", desc := "(I)Z" } : Jvm.MethodName)) ∈ lw_all := lw_g (lw_at lw_m20 62 rfl) rfl
theorem q4924 : (Jvm.Cond.privateMethod ({ cls := "LinkedTongueModel", name := "hasRoomFor", desc := "(I)Z" } : Jvm.MethodName)) ∈ lw_tbl := lw_at lw_m20 63 rfl
theorem q4925 : (Jvm.Cond.instanceMethod ({ cls := "LinkedTongueModel", name := "hasRoomFor", desc := "(I)Z" } : Jvm.MethodName)) ∈ lw_all := lw_g (lw_at lw_m20 64 rfl) rfl
theorem q4926 : (Jvm.Cond.code ({ cls := "LinkedTongueModel", name := "hasRoomFor", desc := "(I)Z" } : Jvm.MethodName) prog_49_method_87_code (2 : Nat) (Option.some Jvm.ClassFile.FieldType.boolean)) ∈ lw_all := lw_g (lw_at lw_m20 65 rfl) rfl
theorem q4927 : (Jvm.Cond.methodLink "LinkedTongueModel" (1070 : Nat) ({ cls := "LinkedTongueModel", name := "takesTask", desc := "(I)V" } : Jvm.MethodName)) ∈ lw_all := lw_g (lw_at lw_m20 66 rfl) rfl
theorem q4928 : (Jvm.Cond.privateMethod ({ cls := "LinkedTongueModel", name := "takesTask", desc := "(I)V" } : Jvm.MethodName)) ∈ lw_tbl := lw_at lw_m20 67 rfl
theorem q4929 : (Jvm.Cond.instanceMethod ({ cls := "LinkedTongueModel", name := "takesTask", desc := "(I)V" } : Jvm.MethodName)) ∈ lw_all := lw_g (lw_at lw_m20 68 rfl) rfl
theorem q4930 : (Jvm.Cond.code ({ cls := "LinkedTongueModel", name := "takesTask", desc := "(I)V" } : Jvm.MethodName) prog_49_method_128_code (2 : Nat) (Option.none : Option Jvm.ClassFile.FieldType)) ∈ lw_all := lw_g (lw_at lw_m20 69 rfl) rfl
theorem q4931 : (Jvm.Cond.methodLink "LinkedTongueModel" (1073 : Nat) ({ cls := "LinkedTongueModel", name := "newCall", desc := "(IIII)I" } : Jvm.MethodName)) ∈ lw_all := lw_g (lw_at lw_m20 70 rfl) rfl
theorem q4932 : (Jvm.Cond.privateMethod ({ cls := "LinkedTongueModel", name := "newCall", desc := "(IIII)I" } : Jvm.MethodName)) ∈ lw_tbl := lw_at lw_m20 71 rfl
theorem q4933 : (Jvm.Cond.instanceMethod ({ cls := "LinkedTongueModel", name := "newCall", desc := "(IIII)I" } : Jvm.MethodName)) ∈ lw_all := lw_g (lw_at lw_m20 72 rfl) rfl
theorem q4934 : (Jvm.Cond.code ({ cls := "LinkedTongueModel", name := "newCall", desc := "(IIII)I" } : Jvm.MethodName) prog_49_method_134_code (8 : Nat) (Option.some Jvm.ClassFile.FieldType.int)) ∈ lw_all := lw_g (lw_at lw_m20 73 rfl) rfl
theorem q4935 : (Jvm.Cond.methodLink "LinkedTongueModel" (1060 : Nat) ({ cls := "LinkedTongueModel", name := "setsVariable", desc := "(IIJ)V" } : Jvm.MethodName)) ∈ lw_all := lw_g (lw_at lw_m20 74 rfl) rfl
theorem q4936 : (Jvm.Cond.privateMethod ({ cls := "LinkedTongueModel", name := "setsVariable", desc := "(IIJ)V" } : Jvm.MethodName)) ∈ lw_tbl := lw_at lw_m20 75 rfl
theorem q4937 : (Jvm.Cond.instanceMethod ({ cls := "LinkedTongueModel", name := "setsVariable", desc := "(IIJ)V" } : Jvm.MethodName)) ∈ lw_all := lw_g (lw_at lw_m20 76 rfl) rfl
theorem q4938 : (Jvm.Cond.code ({ cls := "LinkedTongueModel", name := "setsVariable", desc := "(IIJ)V" } : Jvm.MethodName) prog_49_method_81_code (5 : Nat) (Option.none : Option Jvm.ClassFile.FieldType)) ∈ lw_all := lw_g (lw_at lw_m20 77 rfl) rfl
theorem q4939 : (Jvm.Cond.methodLink "LinkedTongueModel" (1077 : Nat) ({ cls := "LinkedTongueModel", name := "enters", desc := "(IIIJI)V" } : Jvm.MethodName)) ∈ lw_all := lw_g (lw_at lw_m20 78 rfl) rfl
theorem q4940 : (Jvm.Cond.privateMethod ({ cls := "LinkedTongueModel", name := "enters", desc := "(IIIJI)V" } : Jvm.MethodName)) ∈ lw_tbl := lw_at lw_m20 79 rfl
theorem q4941 : (Jvm.Cond.instanceMethod ({ cls := "LinkedTongueModel", name := "enters", desc := "(IIIJI)V" } : Jvm.MethodName)) ∈ lw_all := lw_g (lw_at lw_m20 80 rfl) rfl
theorem q4942 : (Jvm.Cond.code ({ cls := "LinkedTongueModel", name := "enters", desc := "(IIIJI)V" } : Jvm.MethodName) prog_49_method_136_code (7 : Nat) (Option.none : Option Jvm.ClassFile.FieldType)) ∈ lw_all := lw_g (lw_at lw_m20 81 rfl) rfl
theorem q4944 : (Jvm.Cond.instanceMethod ({ cls := "LinkedTongueModel", name := "steps", desc := "(II)I" } : Jvm.MethodName)) ∈ lw_all := lw_g (lw_at lw_m20 83 rfl) rfl
theorem q4945 : (Jvm.Cond.selects "LinkedTongueModel" ({ cls := "LinkedTongueModel", name := "steps", desc := "(II)I" } : Jvm.MethodName) ({ cls := "LinkedTongueModel", name := "steps", desc := "(II)I" } : Jvm.MethodName)) ∈ lw_all := lw_g (lw_at lw_m20 84 rfl) rfl
theorem q4946 : (Jvm.Cond.codeWith ({ cls := "LinkedTongueModel", name := "steps", desc := "(II)I" } : Jvm.MethodName) prog_49_method_140_code (5 : Nat) (Option.some Jvm.ClassFile.FieldType.int) [((76 : Nat), (115 : Nat), (118 : Nat), (9 : Nat))]) ∈ lw_all := lw_g (lw_at lw_m20 85 rfl) rfl
theorem q4947 : (Jvm.Cond.constantLong "LinkedTongueModel" (1087 : Nat) (1000 : Int64)) ∈ lw_all := lw_g (lw_at lw_m20 86 rfl) rfl
theorem q4948 : (Jvm.Cond.methodLink "LinkedTongueModel" (1092 : Nat) ({ cls := "LinkedTongueModel", name := "does", desc := "()V" } : Jvm.MethodName)) ∈ lw_all := lw_g (lw_at lw_m20 87 rfl) rfl
theorem q4949 : (Jvm.Cond.privateMethod ({ cls := "LinkedTongueModel", name := "does", desc := "()V" } : Jvm.MethodName)) ∈ lw_tbl := lw_at lw_m20 88 rfl
theorem q4950 : (Jvm.Cond.instanceMethod ({ cls := "LinkedTongueModel", name := "does", desc := "()V" } : Jvm.MethodName)) ∈ lw_all := lw_g (lw_at lw_m20 89 rfl) rfl
theorem q4951 : (Jvm.Cond.code ({ cls := "LinkedTongueModel", name := "does", desc := "()V" } : Jvm.MethodName) prog_49_method_141_code (5 : Nat) (Option.none : Option Jvm.ClassFile.FieldType)) ∈ lw_all := lw_g (lw_at lw_m20 90 rfl) rfl
theorem q4952 : (Jvm.Cond.methodLink "LinkedTongueModel" (1098 : Nat) ({ cls := "LinkedTongueModel", name := "invokes", desc := "(I)V" } : Jvm.MethodName)) ∈ lw_all := lw_g (lw_at lw_m20 91 rfl) rfl
theorem q4953 : (Jvm.Cond.privateMethod ({ cls := "LinkedTongueModel", name := "invokes", desc := "(I)V" } : Jvm.MethodName)) ∈ lw_tbl := lw_at lw_m20 92 rfl
theorem q4954 : (Jvm.Cond.instanceMethod ({ cls := "LinkedTongueModel", name := "invokes", desc := "(I)V" } : Jvm.MethodName)) ∈ lw_all := lw_g (lw_at lw_m20 93 rfl) rfl
theorem q4955 : (Jvm.Cond.code ({ cls := "LinkedTongueModel", name := "invokes", desc := "(I)V" } : Jvm.MethodName) prog_49_method_163_code (7 : Nat) (Option.none : Option Jvm.ClassFile.FieldType)) ∈ lw_all := lw_g (lw_at lw_m20 94 rfl) rfl
theorem q4956 : (Jvm.Cond.methodLink "LinkedTongueModel" (1054 : Nat) ({ cls := "LinkedTongueModel", name := "h", desc := "()I" } : Jvm.MethodName)) ∈ lw_all := lw_g (lw_at lw_m20 95 rfl) rfl
theorem q4957 : (Jvm.Cond.privateMethod ({ cls := "LinkedTongueModel", name := "h", desc := "()I" } : Jvm.MethodName)) ∈ lw_tbl := lw_at lw_m20 96 rfl
theorem q4958 : (Jvm.Cond.instanceMethod ({ cls := "LinkedTongueModel", name := "h", desc := "()I" } : Jvm.MethodName)) ∈ lw_all := lw_g (lw_at lw_m20 97 rfl) rfl
theorem q4959 : (Jvm.Cond.code ({ cls := "LinkedTongueModel", name := "h", desc := "()I" } : Jvm.MethodName) prog_49_method_129_code (1 : Nat) (Option.some Jvm.ClassFile.FieldType.int)) ∈ lw_all := lw_g (lw_at lw_m20 98 rfl) rfl
theorem q4960 : (Jvm.Cond.methodLink "LinkedTongueModel" (1168 : Nat) ({ cls := "LinkedTongueModel", name := "hasShape", desc := "(I)Z" } : Jvm.MethodName)) ∈ lw_all := lw_g (lw_at lw_m20 99 rfl) rfl
theorem q4961 : (Jvm.Cond.privateMethod ({ cls := "LinkedTongueModel", name := "hasShape", desc := "(I)Z" } : Jvm.MethodName)) ∈ lw_tbl := lw_at lw_m20 100 rfl
theorem q4962 : (Jvm.Cond.instanceMethod ({ cls := "LinkedTongueModel", name := "hasShape", desc := "(I)Z" } : Jvm.MethodName)) ∈ lw_all := lw_g (lw_at lw_m20 101 rfl) rfl
theorem q4963 : (Jvm.Cond.code ({ cls := "LinkedTongueModel", name := "hasShape", desc := "(I)Z" } : Jvm.MethodName) prog_49_method_92_code (2 : Nat) (Option.some Jvm.ClassFile.FieldType.boolean)) ∈ lw_all := lw_g (lw_at lw_m20 102 rfl) rfl
theorem q4964 : (Jvm.Cond.methodLink "LinkedTongueModel" (1238 : Nat) ({ cls := "LinkedTongueModel", name := "namesElement", desc := "()V" } : Jvm.MethodName)) ∈ lw_all := lw_g (lw_at lw_m20 103 rfl) rfl
theorem q4965 : (Jvm.Cond.privateMethod ({ cls := "LinkedTongueModel", name := "namesElement", desc := "()V" } : Jvm.MethodName)) ∈ lw_tbl := lw_at lw_m20 104 rfl
theorem q4966 : (Jvm.Cond.instanceMethod ({ cls := "LinkedTongueModel", name := "namesElement", desc := "()V" } : Jvm.MethodName)) ∈ lw_all := lw_g (lw_at lw_m20 105 rfl) rfl
theorem q4967 : (Jvm.Cond.code ({ cls := "LinkedTongueModel", name := "namesElement", desc := "()V" } : Jvm.MethodName) prog_49_method_164_code (2 : Nat) (Option.none : Option Jvm.ClassFile.FieldType)) ∈ lw_all := lw_g (lw_at lw_m20 106 rfl) rfl
theorem q4968 : (Jvm.Cond.constantLong "LinkedTongueModel" (1261 : Nat) (60 : Int64)) ∈ lw_all := lw_g (lw_at lw_m20 107 rfl) rfl
theorem q4969 : (Jvm.Cond.methodLink "LinkedTongueModel" (927 : Nat) ({ cls := "LinkedTongueModel", name := "room", desc := "(Z)V" } : Jvm.MethodName)) ∈ lw_all := lw_g (lw_at lw_m20 108 rfl) rfl
theorem q4970 : (Jvm.Cond.privateMethod ({ cls := "LinkedTongueModel", name := "room", desc := "(Z)V" } : Jvm.MethodName)) ∈ lw_tbl := lw_at lw_m20 109 rfl
theorem q4971 : (Jvm.Cond.instanceMethod ({ cls := "LinkedTongueModel", name := "room", desc := "(Z)V" } : Jvm.MethodName)) ∈ lw_all := lw_g (lw_at lw_m20 110 rfl) rfl
theorem q4972 : (Jvm.Cond.code ({ cls := "LinkedTongueModel", name := "room", desc := "(Z)V" } : Jvm.MethodName) prog_49_method_86_code (2 : Nat) (Option.none : Option Jvm.ClassFile.FieldType)) ∈ lw_all := lw_g (lw_at lw_m20 111 rfl) rfl
theorem q4973 : (Jvm.Cond.methodLink "LinkedTongueModel" (1241 : Nat) ({ cls := "LinkedTongueModel", name := "isStale", desc := "(II)Z" } : Jvm.MethodName)) ∈ lw_all := lw_g (lw_at lw_m20 112 rfl) rfl
theorem q4974 : (Jvm.Cond.privateMethod ({ cls := "LinkedTongueModel", name := "isStale", desc := "(II)Z" } : Jvm.MethodName)) ∈ lw_tbl := lw_at lw_m20 113 rfl
theorem q4975 : (Jvm.Cond.instanceMethod ({ cls := "LinkedTongueModel", name := "isStale", desc := "(II)Z" } : Jvm.MethodName)) ∈ lw_all := lw_g (lw_at lw_m20 114 rfl) rfl
theorem q4976 : (Jvm.Cond.code ({ cls := "LinkedTongueModel", name := "isStale", desc := "(II)Z" } : Jvm.MethodName) prog_49_method_160_code (5 : Nat) (Option.some Jvm.ClassFile.FieldType.boolean)) ∈ lw_all := lw_g (lw_at lw_m20 115 rfl) rfl
theorem q4977 : (Jvm.Cond.methodLink "LinkedTongueModel" (1171 : Nat) ({ cls := "LinkedTongueModel", name := "protoOf", desc := "(I)I" } : Jvm.MethodName)) ∈ lw_all := lw_g (lw_at lw_m20 116 rfl) rfl
theorem q4978 : (Jvm.Cond.privateMethod ({ cls := "LinkedTongueModel", name := "protoOf", desc := "(I)I" } : Jvm.MethodName)) ∈ lw_tbl := lw_at lw_m20 117 rfl
theorem q4979 : (Jvm.Cond.instanceMethod ({ cls := "LinkedTongueModel", name := "protoOf", desc := "(I)I" } : Jvm.MethodName)) ∈ lw_all := lw_g (lw_at lw_m20 118 rfl) rfl
theorem q4980 : (Jvm.Cond.code ({ cls := "LinkedTongueModel", name := "protoOf", desc := "(I)I" } : Jvm.MethodName) prog_49_method_93_code (2 : Nat) (Option.some Jvm.ClassFile.FieldType.int)) ∈ lw_all := lw_g (lw_at lw_m20 119 rfl) rfl
theorem q4981 : (Jvm.Cond.methodLink "LinkedTongueModel" (1244 : Nat) ({ cls := "LinkedTongueModel", name := "copies", desc := "(II)V" } : Jvm.MethodName)) ∈ lw_all := lw_g (lw_at lw_m20 120 rfl) rfl
theorem q4982 : (Jvm.Cond.privateMethod ({ cls := "LinkedTongueModel", name := "copies", desc := "(II)V" } : Jvm.MethodName)) ∈ lw_tbl := lw_at lw_m20 121 rfl
theorem q4983 : (Jvm.Cond.instanceMethod ({ cls := "LinkedTongueModel", name := "copies", desc := "(II)V" } : Jvm.MethodName)) ∈ lw_all := lw_g (lw_at lw_m20 122 rfl) rfl
theorem q4984 : (Jvm.Cond.code ({ cls := "LinkedTongueModel", name := "copies", desc := "(II)V" } : Jvm.MethodName) prog_49_method_162_code (3 : Nat) (Option.none : Option Jvm.ClassFile.FieldType)) ∈ lw_all := lw_g (lw_at lw_m20 123 rfl) rfl
theorem q4985 : (Jvm.Cond.methodLink "LinkedTongueModel" (1247 : Nat) ({ cls := "LinkedTongueModel", name := "guards", desc := "(II)Z" } : Jvm.MethodName)) ∈ lw_all := lw_g (lw_at lw_m20 124 rfl) rfl
theorem q4986 : (Jvm.Cond.privateMethod ({ cls := "LinkedTongueModel", name := "guards", desc := "(II)Z" } : Jvm.MethodName)) ∈ lw_tbl := lw_at lw_m20 125 rfl
theorem q4987 : (Jvm.Cond.instanceMethod ({ cls := "LinkedTongueModel", name := "guards", desc := "(II)Z" } : Jvm.MethodName)) ∈ lw_all := lw_g (lw_at lw_m20 126 rfl) rfl
theorem q4988 : (Jvm.Cond.code ({ cls := "LinkedTongueModel", name := "guards", desc := "(II)Z" } : Jvm.MethodName) prog_49_method_161_code (7 : Nat) (Option.some Jvm.ClassFile.FieldType.boolean)) ∈ lw_all := lw_g (lw_at lw_m20 127 rfl) rfl
theorem q4989 : (Jvm.Cond.constantLong "LinkedTongueModel" (1226 : Nat) (127 : Int64)) ∈ lw_all := lw_g (lw_at lw_m20 128 rfl) rfl
theorem q4990 : (Jvm.Cond.methodLink "LinkedTongueModel" (1231 : Nat) ({ cls := "LinkedTongueModel", name := "typeOf", desc := "(IJ)I" } : Jvm.MethodName)) ∈ lw_all := lw_g (lw_at lw_m20 129 rfl) rfl
theorem q4991 : (Jvm.Cond.privateMethod ({ cls := "LinkedTongueModel", name := "typeOf", desc := "(IJ)I" } : Jvm.MethodName)) ∈ lw_tbl := lw_at lw_m20 130 rfl
theorem q4992 : (Jvm.Cond.instanceMethod ({ cls := "LinkedTongueModel", name := "typeOf", desc := "(IJ)I" } : Jvm.MethodName)) ∈ lw_all := lw_g (lw_at lw_m20 131 rfl) rfl
theorem q4993 : (Jvm.Cond.code ({ cls := "LinkedTongueModel", name := "typeOf", desc := "(IJ)I" } : Jvm.MethodName) prog_49_method_124_code (4 : Nat) (Option.some Jvm.ClassFile.FieldType.int)) ∈ lw_all := lw_g (lw_at lw_m20 132 rfl) rfl
theorem q4994 : (Jvm.Cond.methodLink "LinkedTongueModel" (1250 : Nat) ({ cls := "LinkedTongueModel", name := "hits", desc := "(II)V" } : Jvm.MethodName)) ∈ lw_all := lw_g (lw_at lw_m20 133 rfl) rfl
theorem q4995 : (Jvm.Cond.privateMethod ({ cls := "LinkedTongueModel", name := "hits", desc := "(II)V" } : Jvm.MethodName)) ∈ lw_tbl := lw_at lw_m20 134 rfl
theorem q4996 : (Jvm.Cond.instanceMethod ({ cls := "LinkedTongueModel", name := "hits", desc := "(II)V" } : Jvm.MethodName)) ∈ lw_all := lw_g (lw_at lw_m20 135 rfl) rfl
theorem q4997 : (Jvm.Cond.codeWith ({ cls := "LinkedTongueModel", name := "hits", desc := "(II)V" } : Jvm.MethodName) prog_49_method_165_code (5 : Nat) (Option.none : Option Jvm.ClassFile.FieldType) [((2 : Nat), (53 : Nat), (56 : Nat), (9 : Nat))]) ∈ lw_all := lw_g (lw_at lw_m20 136 rfl) rfl
theorem q4998 : (Jvm.Cond.methodLink "LinkedTongueModel" (1252 : Nat) ({ cls := "LinkedTongueModel", name := "looks", desc := "(IZ)V" } : Jvm.MethodName)) ∈ lw_all := lw_g (lw_at lw_m20 137 rfl) rfl
theorem q4999 : (Jvm.Cond.privateMethod ({ cls := "LinkedTongueModel", name := "looks", desc := "(IZ)V" } : Jvm.MethodName)) ∈ lw_tbl := lw_at lw_m20 138 rfl
theorem q5000 : (Jvm.Cond.instanceMethod ({ cls := "LinkedTongueModel", name := "looks", desc := "(IZ)V" } : Jvm.MethodName)) ∈ lw_all := lw_g (lw_at lw_m20 139 rfl) rfl
theorem q5001 : (Jvm.Cond.code ({ cls := "LinkedTongueModel", name := "looks", desc := "(IZ)V" } : Jvm.MethodName) prog_49_method_167_code (4 : Nat) (Option.none : Option Jvm.ClassFile.FieldType)) ∈ lw_all := lw_g (lw_at lw_m20 140 rfl) rfl
theorem q5002 : (Jvm.Cond.methodLink "LinkedTongueModel" (1051 : Nat) ({ cls := "LinkedTongueModel", name := "error", desc := "(I)V" } : Jvm.MethodName)) ∈ lw_all := lw_g (lw_at lw_m20 141 rfl) rfl
theorem q5003 : (Jvm.Cond.privateMethod ({ cls := "LinkedTongueModel", name := "error", desc := "(I)V" } : Jvm.MethodName)) ∈ lw_tbl := lw_at lw_m20 142 rfl
theorem q5004 : (Jvm.Cond.instanceMethod ({ cls := "LinkedTongueModel", name := "error", desc := "(I)V" } : Jvm.MethodName)) ∈ lw_all := lw_g (lw_at lw_m20 143 rfl) rfl
theorem q5005 : (Jvm.Cond.code ({ cls := "LinkedTongueModel", name := "error", desc := "(I)V" } : Jvm.MethodName) prog_49_method_85_code (2 : Nat) (Option.none : Option Jvm.ClassFile.FieldType)) ∈ lw_all := lw_g (lw_at lw_m20 144 rfl) rfl
theorem q5006 : (Jvm.Cond.methodLink "LinkedTongueModel" (1281 : Nat) ({ cls := "LinkedTongueModel", name := "looksAtThing", desc := "(IIZ)V" } : Jvm.MethodName)) ∈ lw_all := lw_g (lw_at lw_m20 145 rfl) rfl
theorem q5007 : (Jvm.Cond.privateMethod ({ cls := "LinkedTongueModel", name := "looksAtThing", desc := "(IIZ)V" } : Jvm.MethodName)) ∈ lw_tbl := lw_at lw_m20 146 rfl
theorem q5008 : (Jvm.Cond.instanceMethod ({ cls := "LinkedTongueModel", name := "looksAtThing", desc := "(IIZ)V" } : Jvm.MethodName)) ∈ lw_all := lw_g (lw_at lw_m20 147 rfl) rfl
theorem q5009 : (Jvm.Cond.code ({ cls := "LinkedTongueModel", name := "looksAtThing", desc := "(IIZ)V" } : Jvm.MethodName) prog_49_method_168_code (8 : Nat) (Option.none : Option Jvm.ClassFile.FieldType)) ∈ lw_all := lw_g (lw_at lw_m20 148 rfl) rfl
theorem q5010 : (Jvm.Cond.methodLink "LinkedTongueModel" (1211 : Nat) ({ cls := "LinkedTongueModel", name := "own", desc := "(II)I" } : Jvm.MethodName)) ∈ lw_all := lw_g (lw_at lw_m20 149 rfl) rfl
theorem q5011 : (Jvm.Cond.privateMethod ({ cls := "LinkedTongueModel", name := "own", desc := "(II)I" } : Jvm.MethodName)) ∈ lw_tbl := lw_at lw_m20 150 rfl
theorem q5012 : (Jvm.Cond.instanceMethod ({ cls := "LinkedTongueModel", name := "own", desc := "(II)I" } : Jvm.MethodName)) ∈ lw_all := lw_g (lw_at lw_m20 151 rfl) rfl
theorem q5013 : (Jvm.Cond.code ({ cls := "LinkedTongueModel", name := "own", desc := "(II)I" } : Jvm.MethodName) prog_49_method_94_code (5 : Nat) (Option.some Jvm.ClassFile.FieldType.int)) ∈ lw_all := lw_g (lw_at lw_m20 152 rfl) rfl
theorem q5014 : (Jvm.Cond.methodLink "LinkedTongueModel" (930 : Nat) ({ cls := "LinkedTongueModel", name := "madeShape", desc := "(III)I" } : Jvm.MethodName)) ∈ lw_all := lw_g (lw_at lw_m20 153 rfl) rfl
theorem q5015 : (Jvm.Cond.privateMethod ({ cls := "LinkedTongueModel", name := "madeShape", desc := "(III)I" } : Jvm.MethodName)) ∈ lw_tbl := lw_at lw_m20 154 rfl
theorem q5016 : (Jvm.Cond.instanceMethod ({ cls := "LinkedTongueModel", name := "madeShape", desc := "(III)I" } : Jvm.MethodName)) ∈ lw_all := lw_g (lw_at lw_m20 155 rfl) rfl
theorem q5017 : (Jvm.Cond.code ({ cls := "LinkedTongueModel", name := "madeShape", desc := "(III)I" } : Jvm.MethodName) prog_49_method_96_code (5 : Nat) (Option.some Jvm.ClassFile.FieldType.int)) ∈ lw_all := lw_g (lw_at lw_m20 156 rfl) rfl
theorem q5018 : (Jvm.Cond.methodLink "LinkedTongueModel" (920 : Nat) ({ cls := "LinkedTongueModel", name := "findShape", desc := "(III)I" } : Jvm.MethodName)) ∈ lw_all := lw_g (lw_at lw_m20 157 rfl) rfl
theorem q5019 : (Jvm.Cond.privateMethod ({ cls := "LinkedTongueModel", name := "findShape", desc := "(III)I" } : Jvm.MethodName)) ∈ lw_tbl := lw_at lw_m20 158 rfl
theorem q5020 : (Jvm.Cond.instanceMethod ({ cls := "LinkedTongueModel", name := "findShape", desc := "(III)I" } : Jvm.MethodName)) ∈ lw_all := lw_g (lw_at lw_m20 159 rfl) rfl
theorem q5021 : (Jvm.Cond.code ({ cls := "LinkedTongueModel", name := "findShape", desc := "(III)I" } : Jvm.MethodName) prog_49_method_95_code (5 : Nat) (Option.some Jvm.ClassFile.FieldType.int)) ∈ lw_all := lw_g (lw_at lw_m20 160 rfl) rfl
theorem q5022 : (Jvm.Cond.methodLink "LinkedTongueModel" (1285 : Nat) ({ cls := "LinkedTongueModel", name := "looksAtRow", desc := "(II)V" } : Jvm.MethodName)) ∈ lw_all := lw_g (lw_at lw_m20 161 rfl) rfl
theorem q5023 : (Jvm.Cond.privateMethod ({ cls := "LinkedTongueModel", name := "looksAtRow", desc := "(II)V" } : Jvm.MethodName)) ∈ lw_tbl := lw_at lw_m20 162 rfl
theorem q5024 : (Jvm.Cond.instanceMethod ({ cls := "LinkedTongueModel", name := "looksAtRow", desc := "(II)V" } : Jvm.MethodName)) ∈ lw_all := lw_g (lw_at lw_m20 163 rfl) rfl
theorem q5025 : (Jvm.Cond.code ({ cls := "LinkedTongueModel", name := "looksAtRow", desc := "(II)V" } : Jvm.MethodName) prog_49_method_170_code (6 : Nat) (Option.none : Option Jvm.ClassFile.FieldType)) ∈ lw_all := lw_g (lw_at lw_m20 164 rfl) rfl
theorem q5026 : (Jvm.Cond.stringRef "LinkedTongueModel" (1291 : Nat) "size") ∈ lw_tbl := lw_at lw_m20 165 rfl
theorem q5027 : (Jvm.Cond.methodLink "LinkedTongueModel" (1292 : Nat) ({ cls := "LinkedTongueModel", name := "isNamed", desc := "(ILjava/lang/String;)Z" } : Jvm.MethodName)) ∈ lw_all := lw_g (lw_at lw_m20 166 rfl) rfl
theorem q5028 : (Jvm.Cond.privateMethod ({ cls := "LinkedTongueModel", name := "isNamed", desc := "(ILjava/lang/String;)Z" } : Jvm.MethodName)) ∈ lw_tbl := lw_at lw_m20 167 rfl
theorem q5029 : (Jvm.Cond.instanceMethod ({ cls := "LinkedTongueModel", name := "isNamed", desc := "(ILjava/lang/String;)Z" } : Jvm.MethodName)) ∈ lw_all := lw_g (lw_at lw_m20 168 rfl) rfl
theorem q5030 : (Jvm.Cond.code ({ cls := "LinkedTongueModel", name := "isNamed", desc := "(ILjava/lang/String;)Z" } : Jvm.MethodName) prog_49_method_169_code (6 : Nat) (Option.some Jvm.ClassFile.FieldType.boolean)) ∈ lw_all := lw_g (lw_at lw_m20 169 rfl) rfl
theorem q5031 : (Jvm.Cond.stringRef "LinkedTongueModel" (1296 : Nat) "push") ∈ lw_tbl := lw_at lw_m20 170 rfl
theorem q5032 : (Jvm.Cond.stringRef "LinkedTongueModel" (1297 : Nat) "pop") ∈ lw_tbl := lw_at lw_m20 171 rfl
theorem q5033 : (Jvm.Cond.stringRef "LinkedTongueModel" (1298 : Nat) "sub") ∈ lw_tbl := lw_at lw_m20 172 rfl
theorem q5034 : (Jvm.Cond.methodLink "LinkedTongueModel" (1288 : Nat) ({ cls := "LinkedTongueModel", name := "looksAtHost", desc := "(IIZ)V" } : Jvm.MethodName)) ∈ lw_all := lw_g (lw_at lw_m20 173 rfl) rfl
theorem q5035 : (Jvm.Cond.privateMethod ({ cls := "LinkedTongueModel", name := "looksAtHost", desc := "(IIZ)V" } : Jvm.MethodName)) ∈ lw_tbl := lw_at lw_m20 174 rfl
theorem q5036 : (Jvm.Cond.instanceMethod ({ cls := "LinkedTongueModel", name := "looksAtHost", desc := "(IIZ)V" } : Jvm.MethodName)) ∈ lw_all := lw_g (lw_at lw_m20 175 rfl) rfl
theorem q5037 : (Jvm.Cond.code ({ cls := "LinkedTongueModel", name := "looksAtHost", desc := "(IIZ)V" } : Jvm.MethodName) prog_49_method_173_code (8 : Nat) (Option.none : Option Jvm.ClassFile.FieldType)) ∈ lw_all := lw_g (lw_at lw_m20 176 rfl) rfl
theorem q5038 : (Jvm.Cond.methodLink "LinkedTongueModel" (1303 : Nat) ({ cls := "LinkedTongueModel", name := "getter", desc := "(IZI)I" } : Jvm.MethodName)) ∈ lw_all := lw_g (lw_at lw_m20 177 rfl) rfl
theorem q5039 : (Jvm.Cond.privateMethod ({ cls := "LinkedTongueModel", name := "getter", desc := "(IZI)I" } : Jvm.MethodName)) ∈ lw_tbl := lw_at lw_m20 178 rfl
theorem q5040 : (Jvm.Cond.instanceMethod ({ cls := "LinkedTongueModel", name := "getter", desc := "(IZI)I" } : Jvm.MethodName)) ∈ lw_all := lw_g (lw_at lw_m20 179 rfl) rfl
theorem q5041 : (Jvm.Cond.code ({ cls := "LinkedTongueModel", name := "getter", desc := "(IZI)I" } : Jvm.MethodName) prog_49_method_174_code (4 : Nat) (Option.some Jvm.ClassFile.FieldType.int)) ∈ lw_all := lw_g (lw_at lw_m20 180 rfl) rfl
theorem q5042 : (Jvm.Cond.stringRef "LinkedTongueModel" (1330 : Nat) "get") ∈ lw_tbl := lw_at lw_m20 181 rfl
theorem q5043 : (Jvm.Cond.methodLink "LinkedTongueModel" (1308 : Nat) ({ cls := "LinkedTongueModel", name := "wants", desc := "(Ljava/lang/String;I)V" } : Jvm.MethodName)) ∈ lw_all := lw_g (lw_at lw_m20 182 rfl) rfl
theorem q5044 : (Jvm.Cond.privateMethod ({ cls := "LinkedTongueModel", name := "wants", desc := "(Ljava/lang/String;I)V" } : Jvm.MethodName)) ∈ lw_tbl := lw_at lw_m20 183 rfl
theorem q5045 : (Jvm.Cond.instanceMethod ({ cls := "LinkedTongueModel", name := "wants", desc := "(Ljava/lang/String;I)V" } : Jvm.MethodName)) ∈ lw_all := lw_g (lw_at lw_m20 184 rfl) rfl
theorem q5046 : (Jvm.Cond.code ({ cls := "LinkedTongueModel", name := "wants", desc := "(Ljava/lang/String;I)V" } : Jvm.MethodName) prog_49_method_114_code (5 : Nat) (Option.none : Option Jvm.ClassFile.FieldType)) ∈ lw_all := lw_g (lw_at lw_m20 185 rfl) rfl
theorem q5047 : (Jvm.Cond.methodLink "LinkedTongueModel" (1312 : Nat) ({ cls := "LinkedTongueModel", name := "collects", desc := "(IZI)V" } : Jvm.MethodName)) ∈ lw_all := lw_g (lw_at lw_m20 186 rfl) rfl
theorem q5048 : (Jvm.Cond.privateMethod ({ cls := "LinkedTongueModel", name := "collects", desc := "(IZI)V" } : Jvm.MethodName)) ∈ lw_tbl := lw_at lw_m20 187 rfl
theorem q5049 : (Jvm.Cond.instanceMethod ({ cls := "LinkedTongueModel", name := "collects", desc := "(IZI)V" } : Jvm.MethodName)) ∈ lw_all := lw_g (lw_at lw_m20 188 rfl) rfl
theorem q5050 : (Jvm.Cond.code ({ cls := "LinkedTongueModel", name := "collects", desc := "(IZI)V" } : Jvm.MethodName) prog_49_method_115_code (9 : Nat) (Option.none : Option Jvm.ClassFile.FieldType)) ∈ lw_all := lw_g (lw_at lw_m20 189 rfl) rfl
theorem q5051 : (Jvm.Cond.methodLink "LinkedTongueModel" (995 : Nat) ({ cls := "LinkedTongueModel", name := "orders", desc := "(I)V" } : Jvm.MethodName)) ∈ lw_all := lw_g (lw_at lw_m20 190 rfl) rfl
theorem q5052 : (Jvm.Cond.privateMethod ({ cls := "LinkedTongueModel", name := "orders", desc := "(I)V" } : Jvm.MethodName)) ∈ lw_tbl := lw_at lw_m20 191 rfl
theorem q5053 : (Jvm.Cond.instanceMethod ({ cls := "LinkedTongueModel", name := "orders", desc := "(I)V" } : Jvm.MethodName)) ∈ lw_all := lw_g (lw_at lw_m20 192 rfl) rfl
theorem q5054 : (Jvm.Cond.code ({ cls := "LinkedTongueModel", name := "orders", desc := "(I)V" } : Jvm.MethodName) prog_49_method_110_code (4 : Nat) (Option.none : Option Jvm.ClassFile.FieldType)) ∈ lw_all := lw_g (lw_at lw_m20 193 rfl) rfl
theorem q5055 : (Jvm.Cond.methodLink "LinkedTongueModel" (986 : Nat) ({ cls := "LinkedTongueModel", name := "addOrder", desc := "(I)Z" } : Jvm.MethodName)) ∈ lw_all := lw_g (lw_at lw_m20 194 rfl) rfl
theorem q5056 : (Jvm.Cond.privateMethod ({ cls := "LinkedTongueModel", name := "addOrder", desc := "(I)Z" } : Jvm.MethodName)) ∈ lw_tbl := lw_at lw_m20 195 rfl
theorem q5057 : (Jvm.Cond.instanceMethod ({ cls := "LinkedTongueModel", name := "addOrder", desc := "(I)Z" } : Jvm.MethodName)) ∈ lw_all := lw_g (lw_at lw_m20 196 rfl) rfl
theorem q5058 : (Jvm.Cond.code ({ cls := "LinkedTongueModel", name := "addOrder", desc := "(I)Z" } : Jvm.MethodName) prog_49_method_111_code (3 : Nat) (Option.some Jvm.ClassFile.FieldType.boolean)) ∈ lw_all := lw_g (lw_at lw_m20 197 rfl) rfl
theorem q5059 : (Jvm.Cond.methodLink "LinkedTongueModel" (989 : Nat) ({ cls := "LinkedTongueModel", name := "ordersSupers", desc := "(I)V" } : Jvm.MethodName)) ∈ lw_all := lw_g (lw_at lw_m20 198 rfl) rfl
theorem q5060 : (Jvm.Cond.privateMethod ({ cls := "LinkedTongueModel", name := "ordersSupers", desc := "(I)V" } : Jvm.MethodName)) ∈ lw_tbl := lw_at lw_m20 199 rfl
theorem q5061 : (Jvm.Cond.instanceMethod ({ cls := "LinkedTongueModel", name := "ordersSupers", desc := "(I)V" } : Jvm.MethodName)) ∈ lw_all := lw_g (lw_at lw_m20 200 rfl) rfl
theorem q5062 : (Jvm.Cond.code ({ cls := "LinkedTongueModel", name := "ordersSupers", desc := "(I)V" } : Jvm.MethodName) prog_49_method_112_code (4 : Nat) (Option.none : Option Jvm.ClassFile.FieldType)) ∈ lw_all := lw_g (lw_at lw_m20 201 rfl) rfl
theorem q5063 : (Jvm.Cond.methodLink "LinkedTongueModel" (1001 : Nat) ({ cls := "LinkedTongueModel", name := "isWanted", desc := "(I)Z" } : Jvm.MethodName)) ∈ lw_all := lw_g (lw_at lw_m20 202 rfl) rfl
theorem q5064 : (Jvm.Cond.privateMethod ({ cls := "LinkedTongueModel", name := "isWanted", desc := "(I)Z" } : Jvm.MethodName)) ∈ lw_tbl := lw_at lw_m20 203 rfl
theorem q5065 : (Jvm.Cond.instanceMethod ({ cls := "LinkedTongueModel", name := "isWanted", desc := "(I)Z" } : Jvm.MethodName)) ∈ lw_all := lw_g (lw_at lw_m20 204 rfl) rfl
theorem q5066 : (Jvm.Cond.code ({ cls := "LinkedTongueModel", name := "isWanted", desc := "(I)Z" } : Jvm.MethodName) prog_49_method_113_code (5 : Nat) (Option.some Jvm.ClassFile.FieldType.boolean)) ∈ lw_all := lw_g (lw_at lw_m20 205 rfl) rfl
theorem q5067 : (Jvm.Cond.stringRef "LinkedTongueModel" (1332 : Nat) "is") ∈ lw_tbl := lw_at lw_m20 206 rfl
theorem q5068 : (Jvm.Cond.stringRef "LinkedTongueModel" (1322 : Nat) "") ∈ lw_tbl := lw_at lw_m20 207 rfl
theorem q5069 : (Jvm.Cond.methodLink "LinkedTongueModel" (1324 : Nat) ({ cls := "LinkedTongueModel", name := "field", desc := "(II)I" } : Jvm.MethodName)) ∈ lw_all := lw_g (lw_at lw_m20 208 rfl) rfl
theorem q5070 : (Jvm.Cond.privateMethod ({ cls := "LinkedTongueModel", name := "field", desc := "(II)I" } : Jvm.MethodName)) ∈ lw_tbl := lw_at lw_m20 209 rfl
theorem q5071 : (Jvm.Cond.instanceMethod ({ cls := "LinkedTongueModel", name := "field", desc := "(II)I" } : Jvm.MethodName)) ∈ lw_all := lw_g (lw_at lw_m20 210 rfl) rfl
theorem q5072 : (Jvm.Cond.code ({ cls := "LinkedTongueModel", name := "field", desc := "(II)I" } : Jvm.MethodName) prog_49_method_125_code (5 : Nat) (Option.some Jvm.ClassFile.FieldType.int)) ∈ lw_all := lw_g (lw_at lw_m20 211 rfl) rfl
theorem q5073 : (Jvm.Cond.stringRef "LinkedTongueModel" (1307 : Nat) "set") ∈ lw_tbl := lw_at lw_m20 212 rfl
theorem q5074 : (Jvm.Cond.methodLink "LinkedTongueModel" (1316 : Nat) ({ cls := "LinkedTongueModel", name := "typesOfEs", desc := "(I)V" } : Jvm.MethodName)) ∈ lw_all := lw_g (lw_at lw_m20 213 rfl) rfl
theorem q5075 : (Jvm.Cond.privateMethod ({ cls := "LinkedTongueModel", name := "typesOfEs", desc := "(I)V" } : Jvm.MethodName)) ∈ lw_tbl := lw_at lw_m20 214 rfl
theorem q5076 : (Jvm.Cond.instanceMethod ({ cls := "LinkedTongueModel", name := "typesOfEs", desc := "(I)V" } : Jvm.MethodName)) ∈ lw_all := lw_g (lw_at lw_m20 215 rfl) rfl
theorem q5077 : (Jvm.Cond.code ({ cls := "LinkedTongueModel", name := "typesOfEs", desc := "(I)V" } : Jvm.MethodName) prog_49_method_171_code (3 : Nat) (Option.none : Option Jvm.ClassFile.FieldType)) ∈ lw_all := lw_g (lw_at lw_m20 216 rfl) rfl
theorem q5078 : (Jvm.Cond.methodLink "LinkedTongueModel" (1319 : Nat) ({ cls := "LinkedTongueModel", name := "chooses", desc := "(IIIZ)V" } : Jvm.MethodName)) ∈ lw_all := lw_g (lw_at lw_m20 217 rfl) rfl
theorem q5079 : (Jvm.Cond.privateMethod ({ cls := "LinkedTongueModel", name := "chooses", desc := "(IIIZ)V" } : Jvm.MethodName)) ∈ lw_tbl := lw_at lw_m20 218 rfl
theorem q5080 : (Jvm.Cond.instanceMethod ({ cls := "LinkedTongueModel", name := "chooses", desc := "(IIIZ)V" } : Jvm.MethodName)) ∈ lw_all := lw_g (lw_at lw_m20 219 rfl) rfl
theorem q5081 : (Jvm.Cond.code ({ cls := "LinkedTongueModel", name := "chooses", desc := "(IIIZ)V" } : Jvm.MethodName) prog_49_method_172_code (6 : Nat) (Option.none : Option Jvm.ClassFile.FieldType)) ∈ lw_all := lw_g (lw_at lw_m20 220 rfl) rfl
theorem q5082 : (Jvm.Cond.methodLink "LinkedTongueModel" (1300 : Nat) ({ cls := "LinkedTongueModel", name := "chosen", desc := "(III)I" } : Jvm.MethodName)) ∈ lw_all := lw_g (lw_at lw_m20 221 rfl) rfl
theorem q5083 : (Jvm.Cond.privateMethod ({ cls := "LinkedTongueModel", name := "chosen", desc := "(III)I" } : Jvm.MethodName)) ∈ lw_tbl := lw_at lw_m20 222 rfl
theorem q5084 : (Jvm.Cond.instanceMethod ({ cls := "LinkedTongueModel", name := "chosen", desc := "(III)I" } : Jvm.MethodName)) ∈ lw_all := lw_g (lw_at lw_m20 223 rfl) rfl
theorem q5085 : (Jvm.Cond.code ({ cls := "LinkedTongueModel", name := "chosen", desc := "(III)I" } : Jvm.MethodName) prog_49_method_123_code (7 : Nat) (Option.some Jvm.ClassFile.FieldType.int)) ∈ lw_all := lw_g (lw_at lw_m20 224 rfl) rfl
theorem q5086 : (Jvm.Cond.methodLink "LinkedTongueModel" (1027 : Nat) ({ cls := "LinkedTongueModel", name := "single", desc := "()I" } : Jvm.MethodName)) ∈ lw_all := lw_g (lw_at lw_m20 225 rfl) rfl
theorem q5087 : (Jvm.Cond.privateMethod ({ cls := "LinkedTongueModel", name := "single", desc := "()I" } : Jvm.MethodName)) ∈ lw_tbl := lw_at lw_m20 226 rfl
theorem q5088 : (Jvm.Cond.instanceMethod ({ cls := "LinkedTongueModel", name := "single", desc := "()I" } : Jvm.MethodName)) ∈ lw_all := lw_g (lw_at lw_m20 227 rfl) rfl
theorem q5089 : (Jvm.Cond.code ({ cls := "LinkedTongueModel", name := "single", desc := "()I" } : Jvm.MethodName) prog_49_method_122_code (8 : Nat) (Option.some Jvm.ClassFile.FieldType.int)) ∈ lw_all := lw_g (lw_at lw_m20 228 rfl) rfl
theorem q5090 : (Jvm.Cond.methodLink "LinkedTongueModel" (1020 : Nat) ({ cls := "LinkedTongueModel", name := "fitsIn", desc := "(II)Z" } : Jvm.MethodName)) ∈ lw_all := lw_g (lw_at lw_m20 229 rfl) rfl
theorem q5091 : (Jvm.Cond.privateMethod ({ cls := "LinkedTongueModel", name := "fitsIn", desc := "(II)Z" } : Jvm.MethodName)) ∈ lw_tbl := lw_at lw_m20 230 rfl
theorem q5092 : (Jvm.Cond.instanceMethod ({ cls := "LinkedTongueModel", name := "fitsIn", desc := "(II)Z" } : Jvm.MethodName)) ∈ lw_all := lw_g (lw_at lw_m20 231 rfl) rfl
theorem q5093 : (Jvm.Cond.code ({ cls := "LinkedTongueModel", name := "fitsIn", desc := "(II)Z" } : Jvm.MethodName) prog_49_method_120_code (6 : Nat) (Option.some Jvm.ClassFile.FieldType.boolean)) ∈ lw_all := lw_g (lw_at lw_m20 232 rfl) rfl
theorem q5094 : (Jvm.Cond.methodLink "LinkedTongueModel" (1009 : Nat) ({ cls := "LinkedTongueModel", name := "parameterAt", desc := "(II)I" } : Jvm.MethodName)) ∈ lw_all := lw_g (lw_at lw_m20 233 rfl) rfl
theorem q5095 : (Jvm.Cond.privateMethod ({ cls := "LinkedTongueModel", name := "parameterAt", desc := "(II)I" } : Jvm.MethodName)) ∈ lw_tbl := lw_at lw_m20 234 rfl
theorem q5096 : (Jvm.Cond.instanceMethod ({ cls := "LinkedTongueModel", name := "parameterAt", desc := "(II)I" } : Jvm.MethodName)) ∈ lw_all := lw_g (lw_at lw_m20 235 rfl) rfl
theorem q5097 : (Jvm.Cond.code ({ cls := "LinkedTongueModel", name := "parameterAt", desc := "(II)I" } : Jvm.MethodName) prog_49_method_119_code (4 : Nat) (Option.some Jvm.ClassFile.FieldType.int)) ∈ lw_all := lw_g (lw_at lw_m20 236 rfl) rfl
theorem q5098 : (Jvm.Cond.methodLink "LinkedTongueModel" (1004 : Nat) ({ cls := "LinkedTongueModel", name := "strict", desc := "(II)Z" } : Jvm.MethodName)) ∈ lw_all := lw_g (lw_at lw_m20 237 rfl) rfl
theorem q5099 : (Jvm.Cond.privateMethod ({ cls := "LinkedTongueModel", name := "strict", desc := "(II)Z" } : Jvm.MethodName)) ∈ lw_tbl := lw_at lw_m20 238 rfl
theorem q5100 : (Jvm.Cond.instanceMethod ({ cls := "LinkedTongueModel", name := "strict", desc := "(II)Z" } : Jvm.MethodName)) ∈ lw_all := lw_g (lw_at lw_m20 239 rfl) rfl
theorem q5101 : (Jvm.Cond.code ({ cls := "LinkedTongueModel", name := "strict", desc := "(II)Z" } : Jvm.MethodName) prog_49_method_117_code (3 : Nat) (Option.some Jvm.ClassFile.FieldType.boolean)) ∈ lw_all := lw_g (lw_at lw_m21 0 rfl) rfl
theorem q5102 : (Jvm.Cond.methodLink "LinkedTongueModel" (1012 : Nat) ({ cls := "LinkedTongueModel", name := "loose", desc := "(II)Z" } : Jvm.MethodName)) ∈ lw_all := lw_g (lw_at lw_m21 1 rfl) rfl
theorem q5103 : (Jvm.Cond.privateMethod ({ cls := "LinkedTongueModel", name := "loose", desc := "(II)Z" } : Jvm.MethodName)) ∈ lw_tbl := lw_at lw_m21 2 rfl
theorem q5104 : (Jvm.Cond.instanceMethod ({ cls := "LinkedTongueModel", name := "loose", desc := "(II)Z" } : Jvm.MethodName)) ∈ lw_all := lw_g (lw_at lw_m21 3 rfl) rfl
theorem q5105 : (Jvm.Cond.code ({ cls := "LinkedTongueModel", name := "loose", desc := "(II)Z" } : Jvm.MethodName) prog_49_method_118_code (3 : Nat) (Option.some Jvm.ClassFile.FieldType.boolean)) ∈ lw_all := lw_g (lw_at lw_m21 4 rfl) rfl
theorem q5106 : (Jvm.Cond.methodLink "LinkedTongueModel" (1023 : Nat) ({ cls := "LinkedTongueModel", name := "isMoreSpecific", desc := "(III)Z" } : Jvm.MethodName)) ∈ lw_all := lw_g (lw_at lw_m21 5 rfl) rfl
theorem q5107 : (Jvm.Cond.privateMethod ({ cls := "LinkedTongueModel", name := "isMoreSpecific", desc := "(III)Z" } : Jvm.MethodName)) ∈ lw_tbl := lw_at lw_m21 6 rfl
theorem q5108 : (Jvm.Cond.instanceMethod ({ cls := "LinkedTongueModel", name := "isMoreSpecific", desc := "(III)Z" } : Jvm.MethodName)) ∈ lw_all := lw_g (lw_at lw_m21 7 rfl) rfl
theorem q5109 : (Jvm.Cond.code ({ cls := "LinkedTongueModel", name := "isMoreSpecific", desc := "(III)Z" } : Jvm.MethodName) prog_49_method_121_code (7 : Nat) (Option.some Jvm.ClassFile.FieldType.boolean)) ∈ lw_all := lw_g (lw_at lw_m21 8 rfl) rfl
theorem q5110 : (Jvm.Cond.methodLink "LinkedTongueModel" (1015 : Nat) ({ cls := "java/lang/Math", name := "max", desc := "(II)I" } : Jvm.MethodName)) ∈ lw_all := lw_g (lw_at lw_m21 9 rfl) rfl
theorem q5111 : (Jvm.Cond.methodLink "LinkedTongueModel" (1327 : Nat) ({ cls := "LinkedTongueModel", name := "collectsMakers", desc := "(I)V" } : Jvm.MethodName)) ∈ lw_all := lw_g (lw_at lw_m21 10 rfl) rfl
theorem q5112 : (Jvm.Cond.privateMethod ({ cls := "LinkedTongueModel", name := "collectsMakers", desc := "(I)V" } : Jvm.MethodName)) ∈ lw_tbl := lw_at lw_m21 11 rfl
theorem q5113 : (Jvm.Cond.instanceMethod ({ cls := "LinkedTongueModel", name := "collectsMakers", desc := "(I)V" } : Jvm.MethodName)) ∈ lw_all := lw_g (lw_at lw_m21 12 rfl) rfl
theorem q5114 : (Jvm.Cond.code ({ cls := "LinkedTongueModel", name := "collectsMakers", desc := "(I)V" } : Jvm.MethodName) prog_49_method_116_code (3 : Nat) (Option.none : Option Jvm.ClassFile.FieldType)) ∈ lw_all := lw_g (lw_at lw_m21 13 rfl) rfl
theorem q5115 : (Jvm.Cond.methodLink "LinkedTongueModel" (1256 : Nat) ({ cls := "LinkedTongueModel", name := "links", desc := "(I)V" } : Jvm.MethodName)) ∈ lw_all := lw_g (lw_at lw_m21 14 rfl) rfl
theorem q5116 : (Jvm.Cond.privateMethod ({ cls := "LinkedTongueModel", name := "links", desc := "(I)V" } : Jvm.MethodName)) ∈ lw_tbl := lw_at lw_m21 15 rfl
theorem q5117 : (Jvm.Cond.instanceMethod ({ cls := "LinkedTongueModel", name := "links", desc := "(I)V" } : Jvm.MethodName)) ∈ lw_all := lw_g (lw_at lw_m21 16 rfl) rfl
theorem q5118 : (Jvm.Cond.code ({ cls := "LinkedTongueModel", name := "links", desc := "(I)V" } : Jvm.MethodName) prog_49_method_166_code (4 : Nat) (Option.none : Option Jvm.ClassFile.FieldType)) ∈ lw_all := lw_g (lw_at lw_m21 17 rfl) rfl
theorem q5119 : (Jvm.Cond.methodLink "LinkedTongueModel" (1258 : Nat) ({ cls := "LinkedTongueModel", name := "acts", desc := "(I)V" } : Jvm.MethodName)) ∈ lw_all := lw_g (lw_at lw_m21 18 rfl) rfl
theorem q5120 : (Jvm.Cond.privateMethod ({ cls := "LinkedTongueModel", name := "acts", desc := "(I)V" } : Jvm.MethodName)) ∈ lw_tbl := lw_at lw_m21 19 rfl
theorem q5121 : (Jvm.Cond.instanceMethod ({ cls := "LinkedTongueModel", name := "acts", desc := "(I)V" } : Jvm.MethodName)) ∈ lw_all := lw_g (lw_at lw_m21 20 rfl) rfl
theorem q5122 : (Jvm.Cond.code ({ cls := "LinkedTongueModel", name := "acts", desc := "(I)V" } : Jvm.MethodName) prog_49_method_176_code (3 : Nat) (Option.none : Option Jvm.ClassFile.FieldType)) ∈ lw_all := lw_g (lw_at lw_m21 21 rfl) rfl
theorem q5123 : (Jvm.Cond.methodLink "LinkedTongueModel" (1333 : Nat) ({ cls := "LinkedTongueModel", name := "actsOnThing", desc := "(II)V" } : Jvm.MethodName)) ∈ lw_all := lw_g (lw_at lw_m21 22 rfl) rfl
theorem q5124 : (Jvm.Cond.privateMethod ({ cls := "LinkedTongueModel", name := "actsOnThing", desc := "(II)V" } : Jvm.MethodName)) ∈ lw_tbl := lw_at lw_m21 23 rfl
theorem q5125 : (Jvm.Cond.instanceMethod ({ cls := "LinkedTongueModel", name := "actsOnThing", desc := "(II)V" } : Jvm.MethodName)) ∈ lw_all := lw_g (lw_at lw_m21 24 rfl) rfl
theorem q5126 : (Jvm.Cond.code ({ cls := "LinkedTongueModel", name := "actsOnThing", desc := "(II)V" } : Jvm.MethodName) prog_49_method_177_code (8 : Nat) (Option.none : Option Jvm.ClassFile.FieldType)) ∈ lw_all := lw_g (lw_at lw_m21 25 rfl) rfl
theorem q5127 : (Jvm.Cond.methodLink "LinkedTongueModel" (1342 : Nat) ({ cls := "LinkedTongueModel", name := "callsFun", desc := "(IIJI)V" } : Jvm.MethodName)) ∈ lw_all := lw_g (lw_at lw_m21 26 rfl) rfl
theorem q5128 : (Jvm.Cond.privateMethod ({ cls := "LinkedTongueModel", name := "callsFun", desc := "(IIJI)V" } : Jvm.MethodName)) ∈ lw_tbl := lw_at lw_m21 27 rfl
theorem q5129 : (Jvm.Cond.instanceMethod ({ cls := "LinkedTongueModel", name := "callsFun", desc := "(IIJI)V" } : Jvm.MethodName)) ∈ lw_all := lw_g (lw_at lw_m21 28 rfl) rfl
theorem q5130 : (Jvm.Cond.code ({ cls := "LinkedTongueModel", name := "callsFun", desc := "(IIJI)V" } : Jvm.MethodName) prog_49_method_179_code (8 : Nat) (Option.none : Option Jvm.ClassFile.FieldType)) ∈ lw_all := lw_g (lw_at lw_m21 29 rfl) rfl
theorem q5131 : (Jvm.Cond.methodLink "LinkedTongueModel" (1346 : Nat) ({ cls := "LinkedTongueModel", name := "news", desc := "(I)V" } : Jvm.MethodName)) ∈ lw_all := lw_g (lw_at lw_m21 30 rfl) rfl
theorem q5132 : (Jvm.Cond.privateMethod ({ cls := "LinkedTongueModel", name := "news", desc := "(I)V" } : Jvm.MethodName)) ∈ lw_tbl := lw_at lw_m21 31 rfl
theorem q5133 : (Jvm.Cond.instanceMethod ({ cls := "LinkedTongueModel", name := "news", desc := "(I)V" } : Jvm.MethodName)) ∈ lw_all := lw_g (lw_at lw_m21 32 rfl) rfl
theorem q5134 : (Jvm.Cond.code ({ cls := "LinkedTongueModel", name := "news", desc := "(I)V" } : Jvm.MethodName) prog_49_method_180_code (8 : Nat) (Option.none : Option Jvm.ClassFile.FieldType)) ∈ lw_all := lw_g (lw_at lw_m21 33 rfl) rfl
theorem q5135 : (Jvm.Cond.fieldLink "LinkedTongueModel" (1355 : Nat) "LinkedTongueModel" "PROTO" "[B") ∈ lw_all := lw_g (lw_at lw_m21 34 rfl) rfl
theorem q5136 : (Jvm.Cond.laysStatic "LinkedTongueModel" "PROTO" "[B") ∈ lw_tbl := lw_at lw_m21 35 rfl
theorem q5137 : (Jvm.Cond.methodLink "LinkedTongueModel" (916 : Nat) ({ cls := "LinkedTongueModel", name := "slotAt", desc := "(II)I" } : Jvm.MethodName)) ∈ lw_all := lw_g (lw_at lw_m21 36 rfl) rfl
theorem q5138 : (Jvm.Cond.privateMethod ({ cls := "LinkedTongueModel", name := "slotAt", desc := "(II)I" } : Jvm.MethodName)) ∈ lw_tbl := lw_at lw_m21 37 rfl
theorem q5139 : (Jvm.Cond.instanceMethod ({ cls := "LinkedTongueModel", name := "slotAt", desc := "(II)I" } : Jvm.MethodName)) ∈ lw_all := lw_g (lw_at lw_m21 38 rfl) rfl
theorem q5140 : (Jvm.Cond.code ({ cls := "LinkedTongueModel", name := "slotAt", desc := "(II)I" } : Jvm.MethodName) prog_49_method_89_code (5 : Nat) (Option.some Jvm.ClassFile.FieldType.int)) ∈ lw_all := lw_g (lw_at lw_m21 39 rfl) rfl
theorem q5141 : (Jvm.Cond.methodLink "LinkedTongueModel" (1149 : Nat) ({ cls := "LinkedTongueModel", name := "newThing", desc := "(I)I" } : Jvm.MethodName)) ∈ lw_all := lw_g (lw_at lw_m21 40 rfl) rfl
theorem q5142 : (Jvm.Cond.privateMethod ({ cls := "LinkedTongueModel", name := "newThing", desc := "(I)I" } : Jvm.MethodName)) ∈ lw_tbl := lw_at lw_m21 41 rfl
theorem q5143 : (Jvm.Cond.instanceMethod ({ cls := "LinkedTongueModel", name := "newThing", desc := "(I)I" } : Jvm.MethodName)) ∈ lw_all := lw_g (lw_at lw_m21 42 rfl) rfl
theorem q5144 : (Jvm.Cond.code ({ cls := "LinkedTongueModel", name := "newThing", desc := "(I)I" } : Jvm.MethodName) prog_49_method_88_code (3 : Nat) (Option.some Jvm.ClassFile.FieldType.int)) ∈ lw_all := lw_g (lw_at lw_m21 43 rfl) rfl
theorem q5145 : (Jvm.Cond.methodLink "LinkedTongueModel" (1349 : Nat) ({ cls := "LinkedTongueModel", name := "sets", desc := "(II)V" } : Jvm.MethodName)) ∈ lw_all := lw_g (lw_at lw_m21 44 rfl) rfl
theorem q5146 : (Jvm.Cond.privateMethod ({ cls := "LinkedTongueModel", name := "sets", desc := "(II)V" } : Jvm.MethodName)) ∈ lw_tbl := lw_at lw_m21 45 rfl
theorem q5147 : (Jvm.Cond.instanceMethod ({ cls := "LinkedTongueModel", name := "sets", desc := "(II)V" } : Jvm.MethodName)) ∈ lw_all := lw_g (lw_at lw_m21 46 rfl) rfl
theorem q5148 : (Jvm.Cond.code ({ cls := "LinkedTongueModel", name := "sets", desc := "(II)V" } : Jvm.MethodName) prog_49_method_178_code (5 : Nat) (Option.none : Option Jvm.ClassFile.FieldType)) ∈ lw_all := lw_g (lw_at lw_m21 47 rfl) rfl
theorem q5149 : (Jvm.Cond.methodLink "LinkedTongueModel" (1158 : Nat) ({ cls := "LinkedTongueModel", name := "addSlot", desc := "(IIIJ)V" } : Jvm.MethodName)) ∈ lw_all := lw_g (lw_at lw_m21 48 rfl) rfl
theorem q5150 : (Jvm.Cond.privateMethod ({ cls := "LinkedTongueModel", name := "addSlot", desc := "(IIIJ)V" } : Jvm.MethodName)) ∈ lw_tbl := lw_at lw_m21 49 rfl
theorem q5151 : (Jvm.Cond.instanceMethod ({ cls := "LinkedTongueModel", name := "addSlot", desc := "(IIIJ)V" } : Jvm.MethodName)) ∈ lw_all := lw_g (lw_at lw_m21 50 rfl) rfl
theorem q5152 : (Jvm.Cond.code ({ cls := "LinkedTongueModel", name := "addSlot", desc := "(IIIJ)V" } : Jvm.MethodName) prog_49_method_90_code (7 : Nat) (Option.none : Option Jvm.ClassFile.FieldType)) ∈ lw_all := lw_g (lw_at lw_m21 51 rfl) rfl
theorem q5153 : (Jvm.Cond.methodLink "LinkedTongueModel" (1208 : Nat) ({ cls := "LinkedTongueModel", name := "changed", desc := "(I)V" } : Jvm.MethodName)) ∈ lw_all := lw_g (lw_at lw_m21 52 rfl) rfl
theorem q5154 : (Jvm.Cond.privateMethod ({ cls := "LinkedTongueModel", name := "changed", desc := "(I)V" } : Jvm.MethodName)) ∈ lw_tbl := lw_at lw_m21 53 rfl
theorem q5155 : (Jvm.Cond.instanceMethod ({ cls := "LinkedTongueModel", name := "changed", desc := "(I)V" } : Jvm.MethodName)) ∈ lw_all := lw_g (lw_at lw_m21 54 rfl) rfl
theorem q5156 : (Jvm.Cond.code ({ cls := "LinkedTongueModel", name := "changed", desc := "(I)V" } : Jvm.MethodName) prog_49_method_97_code (2 : Nat) (Option.none : Option Jvm.ClassFile.FieldType)) ∈ lw_all := lw_g (lw_at lw_m21 55 rfl) rfl
theorem q5157 : (Jvm.Cond.methodLink "LinkedTongueModel" (1352 : Nat) ({ cls := "LinkedTongueModel", name := "gives", desc := "(IJ)V" } : Jvm.MethodName)) ∈ lw_all := lw_g (lw_at lw_m21 56 rfl) rfl
theorem q5158 : (Jvm.Cond.privateMethod ({ cls := "LinkedTongueModel", name := "gives", desc := "(IJ)V" } : Jvm.MethodName)) ∈ lw_tbl := lw_at lw_m21 57 rfl
theorem q5159 : (Jvm.Cond.instanceMethod ({ cls := "LinkedTongueModel", name := "gives", desc := "(IJ)V" } : Jvm.MethodName)) ∈ lw_all := lw_g (lw_at lw_m21 58 rfl) rfl
theorem q5160 : (Jvm.Cond.code ({ cls := "LinkedTongueModel", name := "gives", desc := "(IJ)V" } : Jvm.MethodName) prog_49_method_175_code (4 : Nat) (Option.none : Option Jvm.ClassFile.FieldType)) ∈ lw_all := lw_g (lw_at lw_m21 59 rfl) rfl
theorem q5161 : (Jvm.Cond.methodLink "LinkedTongueModel" (1084 : Nat) ({ cls := "LinkedTongueModel", name := "push", desc := "(IJ)V" } : Jvm.MethodName)) ∈ lw_all := lw_g (lw_at lw_m21 60 rfl) rfl
theorem q5162 : (Jvm.Cond.privateMethod ({ cls := "LinkedTongueModel", name := "push", desc := "(IJ)V" } : Jvm.MethodName)) ∈ lw_tbl := lw_at lw_m21 61 rfl
theorem q5163 : (Jvm.Cond.instanceMethod ({ cls := "LinkedTongueModel", name := "push", desc := "(IJ)V" } : Jvm.MethodName)) ∈ lw_all := lw_g (lw_at lw_m21 62 rfl) rfl
theorem q5164 : (Jvm.Cond.code ({ cls := "LinkedTongueModel", name := "push", desc := "(IJ)V" } : Jvm.MethodName) prog_49_method_131_code (4 : Nat) (Option.none : Option Jvm.ClassFile.FieldType)) ∈ lw_all := lw_g (lw_at lw_m21 63 rfl) rfl
theorem q5165 : (Jvm.Cond.methodLink "LinkedTongueModel" (1336 : Nat) ({ cls := "LinkedTongueModel", name := "actsOnRow", desc := "(II)V" } : Jvm.MethodName)) ∈ lw_all := lw_g (lw_at lw_m21 64 rfl) rfl
theorem q5166 : (Jvm.Cond.privateMethod ({ cls := "LinkedTongueModel", name := "actsOnRow", desc := "(II)V" } : Jvm.MethodName)) ∈ lw_tbl := lw_at lw_m21 65 rfl
theorem q5167 : (Jvm.Cond.instanceMethod ({ cls := "LinkedTongueModel", name := "actsOnRow", desc := "(II)V" } : Jvm.MethodName)) ∈ lw_all := lw_g (lw_at lw_m21 66 rfl) rfl
theorem q5168 : (Jvm.Cond.code ({ cls := "LinkedTongueModel", name := "actsOnRow", desc := "(II)V" } : Jvm.MethodName) prog_49_method_181_code (10 : Nat) (Option.none : Option Jvm.ClassFile.FieldType)) ∈ lw_all := lw_g (lw_at lw_m21 67 rfl) rfl
theorem q5169 : (Jvm.Cond.methodLink "LinkedTongueModel" (1358 : Nat) ({ cls := "LinkedTongueModel", name := "sub", desc := "(IJJ)V" } : Jvm.MethodName)) ∈ lw_all := lw_g (lw_at lw_m21 68 rfl) rfl
theorem q5170 : (Jvm.Cond.privateMethod ({ cls := "LinkedTongueModel", name := "sub", desc := "(IJJ)V" } : Jvm.MethodName)) ∈ lw_tbl := lw_at lw_m21 69 rfl
theorem q5171 : (Jvm.Cond.instanceMethod ({ cls := "LinkedTongueModel", name := "sub", desc := "(IJJ)V" } : Jvm.MethodName)) ∈ lw_all := lw_g (lw_at lw_m21 70 rfl) rfl
theorem q5172 : (Jvm.Cond.code ({ cls := "LinkedTongueModel", name := "sub", desc := "(IJJ)V" } : Jvm.MethodName) prog_49_method_182_code (8 : Nat) (Option.none : Option Jvm.ClassFile.FieldType)) ∈ lw_all := lw_g (lw_at lw_m21 71 rfl) rfl
theorem q5173 : (Jvm.Cond.methodLink "LinkedTongueModel" (969 : Nat) ({ cls := "LinkedTongueModel", name := "newText", desc := "(I)I" } : Jvm.MethodName)) ∈ lw_all := lw_g (lw_at lw_m21 72 rfl) rfl
theorem q5174 : (Jvm.Cond.privateMethod ({ cls := "LinkedTongueModel", name := "newText", desc := "(I)I" } : Jvm.MethodName)) ∈ lw_tbl := lw_at lw_m21 73 rfl
theorem q5175 : (Jvm.Cond.instanceMethod ({ cls := "LinkedTongueModel", name := "newText", desc := "(I)I" } : Jvm.MethodName)) ∈ lw_all := lw_g (lw_at lw_m21 74 rfl) rfl
theorem q5176 : (Jvm.Cond.code ({ cls := "LinkedTongueModel", name := "newText", desc := "(I)I" } : Jvm.MethodName) prog_49_method_104_code (3 : Nat) (Option.some Jvm.ClassFile.FieldType.int)) ∈ lw_all := lw_g (lw_at lw_m21 75 rfl) rfl
theorem q5177 : (Jvm.Cond.methodLink "LinkedTongueModel" (965 : Nat) ({ cls := "LinkedTongueModel", name := "hasRoomForText", desc := "(I)Z" } : Jvm.MethodName)) ∈ lw_all := lw_g (lw_at lw_m21 76 rfl) rfl
theorem q5178 : (Jvm.Cond.privateMethod ({ cls := "LinkedTongueModel", name := "hasRoomForText", desc := "(I)Z" } : Jvm.MethodName)) ∈ lw_tbl := lw_at lw_m21 77 rfl
theorem q5179 : (Jvm.Cond.instanceMethod ({ cls := "LinkedTongueModel", name := "hasRoomForText", desc := "(I)Z" } : Jvm.MethodName)) ∈ lw_all := lw_g (lw_at lw_m21 78 rfl) rfl
theorem q5180 : (Jvm.Cond.code ({ cls := "LinkedTongueModel", name := "hasRoomForText", desc := "(I)Z" } : Jvm.MethodName) prog_49_method_103_code (2 : Nat) (Option.some Jvm.ClassFile.FieldType.boolean)) ∈ lw_all := lw_g (lw_at lw_m21 79 rfl) rfl
theorem q5181 : (Jvm.Cond.constant "LinkedTongueModel" (964 : Nat) (200000 : Int32)) ∈ lw_all := lw_g (lw_at lw_m21 80 rfl) rfl
theorem q5182 : (Jvm.Cond.constant "LinkedTongueModel" (968 : Nat) (69632 : Int32)) ∈ lw_all := lw_g (lw_at lw_m21 81 rfl) rfl
theorem q5183 : (Jvm.Cond.methodLink "LinkedTongueModel" (1361 : Nat) ({ cls := "LinkedTongueModel", name := "setsElement", desc := "(IZJ)V" } : Jvm.MethodName)) ∈ lw_all := lw_g (lw_at lw_m21 82 rfl) rfl
theorem q5184 : (Jvm.Cond.privateMethod ({ cls := "LinkedTongueModel", name := "setsElement", desc := "(IZJ)V" } : Jvm.MethodName)) ∈ lw_tbl := lw_at lw_m21 83 rfl
theorem q5185 : (Jvm.Cond.instanceMethod ({ cls := "LinkedTongueModel", name := "setsElement", desc := "(IZJ)V" } : Jvm.MethodName)) ∈ lw_all := lw_g (lw_at lw_m21 84 rfl) rfl
theorem q5186 : (Jvm.Cond.code ({ cls := "LinkedTongueModel", name := "setsElement", desc := "(IZJ)V" } : Jvm.MethodName) prog_49_method_183_code (6 : Nat) (Option.none : Option Jvm.ClassFile.FieldType)) ∈ lw_all := lw_g (lw_at lw_m21 85 rfl) rfl
theorem q5187 : (Jvm.Cond.methodLink "LinkedTongueModel" (1365 : Nat) ({ cls := "LinkedTongueModel", name := "lists", desc := "(II)V" } : Jvm.MethodName)) ∈ lw_all := lw_g (lw_at lw_m21 86 rfl) rfl
theorem q5188 : (Jvm.Cond.privateMethod ({ cls := "LinkedTongueModel", name := "lists", desc := "(II)V" } : Jvm.MethodName)) ∈ lw_tbl := lw_at lw_m21 87 rfl
theorem q5189 : (Jvm.Cond.instanceMethod ({ cls := "LinkedTongueModel", name := "lists", desc := "(II)V" } : Jvm.MethodName)) ∈ lw_all := lw_g (lw_at lw_m21 88 rfl) rfl
theorem q5190 : (Jvm.Cond.code ({ cls := "LinkedTongueModel", name := "lists", desc := "(II)V" } : Jvm.MethodName) prog_49_method_184_code (7 : Nat) (Option.none : Option Jvm.ClassFile.FieldType)) ∈ lw_all := lw_g (lw_at lw_m21 89 rfl) rfl
theorem q5191 : (Jvm.Cond.methodLink "LinkedTongueModel" (1214 : Nat) ({ cls := "LinkedTongueModel", name := "dropSlot", desc := "(II)V" } : Jvm.MethodName)) ∈ lw_all := lw_g (lw_at lw_m21 90 rfl) rfl
theorem q5192 : (Jvm.Cond.privateMethod ({ cls := "LinkedTongueModel", name := "dropSlot", desc := "(II)V" } : Jvm.MethodName)) ∈ lw_tbl := lw_at lw_m21 91 rfl
theorem q5193 : (Jvm.Cond.instanceMethod ({ cls := "LinkedTongueModel", name := "dropSlot", desc := "(II)V" } : Jvm.MethodName)) ∈ lw_all := lw_g (lw_at lw_m21 92 rfl) rfl
theorem q5194 : (Jvm.Cond.code ({ cls := "LinkedTongueModel", name := "dropSlot", desc := "(II)V" } : Jvm.MethodName) prog_49_method_91_code (4 : Nat) (Option.none : Option Jvm.ClassFile.FieldType)) ∈ lw_all := lw_g (lw_at lw_m21 93 rfl) rfl
theorem q5195 : (Jvm.Cond.methodLink "LinkedTongueModel" (1339 : Nat) ({ cls := "LinkedTongueModel", name := "actsOnHost", desc := "(I)V" } : Jvm.MethodName)) ∈ lw_all := lw_g (lw_at lw_m21 94 rfl) rfl
theorem q5196 : (Jvm.Cond.privateMethod ({ cls := "LinkedTongueModel", name := "actsOnHost", desc := "(I)V" } : Jvm.MethodName)) ∈ lw_tbl := lw_at lw_m21 95 rfl
theorem q5197 : (Jvm.Cond.instanceMethod ({ cls := "LinkedTongueModel", name := "actsOnHost", desc := "(I)V" } : Jvm.MethodName)) ∈ lw_all := lw_g (lw_at lw_m21 96 rfl) rfl
theorem q5198 : (Jvm.Cond.code ({ cls := "LinkedTongueModel", name := "actsOnHost", desc := "(I)V" } : Jvm.MethodName) prog_49_method_188_code (6 : Nat) (Option.none : Option Jvm.ClassFile.FieldType)) ∈ lw_all := lw_g (lw_at lw_m21 97 rfl) rfl
theorem q5199 : (Jvm.Cond.methodLink "LinkedTongueModel" (1374 : Nat) ({ cls := "LinkedTongueModel", name := "readsFieldOf", desc := "(I)V" } : Jvm.MethodName)) ∈ lw_all := lw_g (lw_at lw_m21 98 rfl) rfl
theorem q5200 : (Jvm.Cond.privateMethod ({ cls := "LinkedTongueModel", name := "readsFieldOf", desc := "(I)V" } : Jvm.MethodName)) ∈ lw_tbl := lw_at lw_m21 99 rfl
theorem q5201 : (Jvm.Cond.instanceMethod ({ cls := "LinkedTongueModel", name := "readsFieldOf", desc := "(I)V" } : Jvm.MethodName)) ∈ lw_all := lw_g (lw_at lw_m21 100 rfl) rfl
theorem q5202 : (Jvm.Cond.code ({ cls := "LinkedTongueModel", name := "readsFieldOf", desc := "(I)V" } : Jvm.MethodName) prog_49_method_186_code (3 : Nat) (Option.none : Option Jvm.ClassFile.FieldType)) ∈ lw_all := lw_g (lw_at lw_m21 101 rfl) rfl
theorem q5203 : (Jvm.Cond.methodLink "LinkedTongueModel" (1057 : Nat) ({ cls := "LinkedTongueModel", name := "is", desc := "(IJ)V" } : Jvm.MethodName)) ∈ lw_all := lw_g (lw_at lw_m21 102 rfl) rfl
theorem q5204 : (Jvm.Cond.privateMethod ({ cls := "LinkedTongueModel", name := "is", desc := "(IJ)V" } : Jvm.MethodName)) ∈ lw_tbl := lw_at lw_m21 103 rfl
theorem q5205 : (Jvm.Cond.instanceMethod ({ cls := "LinkedTongueModel", name := "is", desc := "(IJ)V" } : Jvm.MethodName)) ∈ lw_all := lw_g (lw_at lw_m21 104 rfl) rfl
theorem q5206 : (Jvm.Cond.code ({ cls := "LinkedTongueModel", name := "is", desc := "(IJ)V" } : Jvm.MethodName) prog_49_method_82_code (4 : Nat) (Option.none : Option Jvm.ClassFile.FieldType)) ∈ lw_all := lw_g (lw_at lw_m21 105 rfl) rfl
theorem q5207 : (Jvm.Cond.methodLink "LinkedTongueModel" (1371 : Nat) ({ cls := "LinkedTongueModel", name := "fieldSlot", desc := "(I)I" } : Jvm.MethodName)) ∈ lw_all := lw_g (lw_at lw_m21 106 rfl) rfl
theorem q5208 : (Jvm.Cond.privateMethod ({ cls := "LinkedTongueModel", name := "fieldSlot", desc := "(I)I" } : Jvm.MethodName)) ∈ lw_tbl := lw_at lw_m21 107 rfl
theorem q5209 : (Jvm.Cond.instanceMethod ({ cls := "LinkedTongueModel", name := "fieldSlot", desc := "(I)I" } : Jvm.MethodName)) ∈ lw_all := lw_g (lw_at lw_m21 108 rfl) rfl
theorem q5210 : (Jvm.Cond.code ({ cls := "LinkedTongueModel", name := "fieldSlot", desc := "(I)I" } : Jvm.MethodName) prog_49_method_185_code (2 : Nat) (Option.some Jvm.ClassFile.FieldType.int)) ∈ lw_all := lw_g (lw_at lw_m21 109 rfl) rfl
theorem q5211 : (Jvm.Cond.methodLink "LinkedTongueModel" (1368 : Nat) ({ cls := "LinkedTongueModel", name := "placeOf", desc := "(II)I" } : Jvm.MethodName)) ∈ lw_all := lw_g (lw_at lw_m21 110 rfl) rfl
theorem q5212 : (Jvm.Cond.privateMethod ({ cls := "LinkedTongueModel", name := "placeOf", desc := "(II)I" } : Jvm.MethodName)) ∈ lw_tbl := lw_at lw_m21 111 rfl
theorem q5213 : (Jvm.Cond.instanceMethod ({ cls := "LinkedTongueModel", name := "placeOf", desc := "(II)I" } : Jvm.MethodName)) ∈ lw_all := lw_g (lw_at lw_m21 112 rfl) rfl
theorem q5214 : (Jvm.Cond.code ({ cls := "LinkedTongueModel", name := "placeOf", desc := "(II)I" } : Jvm.MethodName) prog_49_method_127_code (4 : Nat) (Option.some Jvm.ClassFile.FieldType.int)) ∈ lw_all := lw_g (lw_at lw_m21 113 rfl) rfl
theorem q5215 : (Jvm.Cond.methodLink "LinkedTongueModel" (1036 : Nat) ({ cls := "LinkedTongueModel", name := "listsFields", desc := "(I)V" } : Jvm.MethodName)) ∈ lw_all := lw_g (lw_at lw_m21 114 rfl) rfl
theorem q5216 : (Jvm.Cond.privateMethod ({ cls := "LinkedTongueModel", name := "listsFields", desc := "(I)V" } : Jvm.MethodName)) ∈ lw_tbl := lw_at lw_m21 115 rfl
theorem q5217 : (Jvm.Cond.instanceMethod ({ cls := "LinkedTongueModel", name := "listsFields", desc := "(I)V" } : Jvm.MethodName)) ∈ lw_all := lw_g (lw_at lw_m21 116 rfl) rfl
theorem q5218 : (Jvm.Cond.code ({ cls := "LinkedTongueModel", name := "listsFields", desc := "(I)V" } : Jvm.MethodName) prog_49_method_126_code (6 : Nat) (Option.none : Option Jvm.ClassFile.FieldType)) ∈ lw_all := lw_g (lw_at lw_m21 117 rfl) rfl
theorem q5219 : (Jvm.Cond.methodLink "LinkedTongueModel" (1377 : Nat) ({ cls := "LinkedTongueModel", name := "writesFieldOf", desc := "(IIJ)V" } : Jvm.MethodName)) ∈ lw_all := lw_g (lw_at lw_m21 118 rfl) rfl
theorem q5220 : (Jvm.Cond.privateMethod ({ cls := "LinkedTongueModel", name := "writesFieldOf", desc := "(IIJ)V" } : Jvm.MethodName)) ∈ lw_tbl := lw_at lw_m21 119 rfl
theorem q5221 : (Jvm.Cond.instanceMethod ({ cls := "LinkedTongueModel", name := "writesFieldOf", desc := "(IIJ)V" } : Jvm.MethodName)) ∈ lw_all := lw_g (lw_at lw_m21 120 rfl) rfl
theorem q5222 : (Jvm.Cond.code ({ cls := "LinkedTongueModel", name := "writesFieldOf", desc := "(IIJ)V" } : Jvm.MethodName) prog_49_method_187_code (6 : Nat) (Option.none : Option Jvm.ClassFile.FieldType)) ∈ lw_all := lw_g (lw_at lw_m21 121 rfl) rfl
theorem q5223 : (Jvm.Cond.methodLink "LinkedTongueModel" (1380 : Nat) ({ cls := "LinkedTongueModel", name := "doesMember", desc := "(I)V" } : Jvm.MethodName)) ∈ lw_all := lw_g (lw_at lw_m21 122 rfl) rfl
theorem q5224 : (Jvm.Cond.privateMethod ({ cls := "LinkedTongueModel", name := "doesMember", desc := "(I)V" } : Jvm.MethodName)) ∈ lw_tbl := lw_at lw_m21 123 rfl
theorem q5225 : (Jvm.Cond.instanceMethod ({ cls := "LinkedTongueModel", name := "doesMember", desc := "(I)V" } : Jvm.MethodName)) ∈ lw_all := lw_g (lw_at lw_m21 124 rfl) rfl
theorem q5226 : (Jvm.Cond.code ({ cls := "LinkedTongueModel", name := "doesMember", desc := "(I)V" } : Jvm.MethodName) prog_49_method_192_code (4 : Nat) (Option.none : Option Jvm.ClassFile.FieldType)) ∈ lw_all := lw_g (lw_at lw_m21 125 rfl) rfl
theorem q5227 : (Jvm.Cond.methodLink "LinkedTongueModel" (1386 : Nat) ({ cls := "LinkedTongueModel", name := "makes", desc := "(I)V" } : Jvm.MethodName)) ∈ lw_all := lw_g (lw_at lw_m21 126 rfl) rfl
theorem q5228 : (Jvm.Cond.privateMethod ({ cls := "LinkedTongueModel", name := "makes", desc := "(I)V" } : Jvm.MethodName)) ∈ lw_tbl := lw_at lw_m21 127 rfl
theorem q5229 : (Jvm.Cond.instanceMethod ({ cls := "LinkedTongueModel", name := "makes", desc := "(I)V" } : Jvm.MethodName)) ∈ lw_all := lw_g (lw_at lw_m21 128 rfl) rfl
theorem q5230 : (Jvm.Cond.code ({ cls := "LinkedTongueModel", name := "makes", desc := "(I)V" } : Jvm.MethodName) prog_49_method_195_code (10 : Nat) (Option.none : Option Jvm.ClassFile.FieldType)) ∈ lw_all := lw_g (lw_at lw_m21 129 rfl) rfl
theorem q5231 : (Jvm.Cond.methodLink "LinkedTongueModel" (1392 : Nat) ({ cls := "LinkedTongueModel", name := "traces", desc := "(I)V" } : Jvm.MethodName)) ∈ lw_all := lw_g (lw_at lw_m21 130 rfl) rfl
theorem q5232 : (Jvm.Cond.privateMethod ({ cls := "LinkedTongueModel", name := "traces", desc := "(I)V" } : Jvm.MethodName)) ∈ lw_tbl := lw_at lw_m21 131 rfl
theorem q5233 : (Jvm.Cond.instanceMethod ({ cls := "LinkedTongueModel", name := "traces", desc := "(I)V" } : Jvm.MethodName)) ∈ lw_all := lw_g (lw_at lw_m21 132 rfl) rfl
theorem q5234 : (Jvm.Cond.code ({ cls := "LinkedTongueModel", name := "traces", desc := "(I)V" } : Jvm.MethodName) prog_49_method_191_code (2 : Nat) (Option.none : Option Jvm.ClassFile.FieldType)) ∈ lw_all := lw_g (lw_at lw_m21 133 rfl) rfl
theorem q5235 : (Jvm.Cond.methodLink "LinkedTongueModel" (1389 : Nat) ({ cls := "LinkedTongueModel", name := "fieldFor", desc := "(I)I" } : Jvm.MethodName)) ∈ lw_all := lw_g (lw_at lw_m21 134 rfl) rfl
theorem q5236 : (Jvm.Cond.privateMethod ({ cls := "LinkedTongueModel", name := "fieldFor", desc := "(I)I" } : Jvm.MethodName)) ∈ lw_tbl := lw_at lw_m21 135 rfl
theorem q5237 : (Jvm.Cond.instanceMethod ({ cls := "LinkedTongueModel", name := "fieldFor", desc := "(I)I" } : Jvm.MethodName)) ∈ lw_all := lw_g (lw_at lw_m21 136 rfl) rfl
theorem q5238 : (Jvm.Cond.code ({ cls := "LinkedTongueModel", name := "fieldFor", desc := "(I)I" } : Jvm.MethodName) prog_49_method_189_code (8 : Nat) (Option.some Jvm.ClassFile.FieldType.int)) ∈ lw_all := lw_g (lw_at lw_m21 137 rfl) rfl
theorem q5239 : (Jvm.Cond.methodLink "LinkedTongueModel" (1383 : Nat) ({ cls := "LinkedTongueModel", name := "isPrefixed", desc := "(ILjava/lang/String;)Z" } : Jvm.MethodName)) ∈ lw_all := lw_g (lw_at lw_m21 138 rfl) rfl
theorem q5240 : (Jvm.Cond.privateMethod ({ cls := "LinkedTongueModel", name := "isPrefixed", desc := "(ILjava/lang/String;)Z" } : Jvm.MethodName)) ∈ lw_tbl := lw_at lw_m21 139 rfl
theorem q5241 : (Jvm.Cond.instanceMethod ({ cls := "LinkedTongueModel", name := "isPrefixed", desc := "(ILjava/lang/String;)Z" } : Jvm.MethodName)) ∈ lw_all := lw_g (lw_at lw_m21 140 rfl) rfl
theorem q5242 : (Jvm.Cond.code ({ cls := "LinkedTongueModel", name := "isPrefixed", desc := "(ILjava/lang/String;)Z" } : Jvm.MethodName) prog_49_method_190_code (5 : Nat) (Option.some Jvm.ClassFile.FieldType.boolean)) ∈ lw_all := lw_g (lw_at lw_m21 141 rfl) rfl
theorem q5243 : (Jvm.Cond.methodLink "LinkedTongueModel" (1189 : Nat) ({ cls := "LinkedTongueModel", name := "madeText", desc := "()I" } : Jvm.MethodName)) ∈ lw_all := lw_g (lw_at lw_m21 142 rfl) rfl
theorem q5244 : (Jvm.Cond.privateMethod ({ cls := "LinkedTongueModel", name := "madeText", desc := "()I" } : Jvm.MethodName)) ∈ lw_tbl := lw_at lw_m21 143 rfl
theorem q5245 : (Jvm.Cond.instanceMethod ({ cls := "LinkedTongueModel", name := "madeText", desc := "()I" } : Jvm.MethodName)) ∈ lw_all := lw_g (lw_at lw_m21 144 rfl) rfl
theorem q5246 : (Jvm.Cond.code ({ cls := "LinkedTongueModel", name := "madeText", desc := "()I" } : Jvm.MethodName) prog_49_method_105_code (3 : Nat) (Option.some Jvm.ClassFile.FieldType.int)) ∈ lw_all := lw_g (lw_at lw_m21 145 rfl) rfl
theorem q5247 : (Jvm.Cond.methodLink "LinkedTongueModel" (1395 : Nat) ({ cls := "LinkedTongueModel", name := "answersByType", desc := "(I)V" } : Jvm.MethodName)) ∈ lw_all := lw_g (lw_at lw_m21 146 rfl) rfl
theorem q5248 : (Jvm.Cond.privateMethod ({ cls := "LinkedTongueModel", name := "answersByType", desc := "(I)V" } : Jvm.MethodName)) ∈ lw_tbl := lw_at lw_m21 147 rfl
theorem q5249 : (Jvm.Cond.instanceMethod ({ cls := "LinkedTongueModel", name := "answersByType", desc := "(I)V" } : Jvm.MethodName)) ∈ lw_all := lw_g (lw_at lw_m21 148 rfl) rfl
theorem q5250 : (Jvm.Cond.code ({ cls := "LinkedTongueModel", name := "answersByType", desc := "(I)V" } : Jvm.MethodName) prog_49_method_193_code (7 : Nat) (Option.none : Option Jvm.ClassFile.FieldType)) ∈ lw_all := lw_g (lw_at lw_m21 149 rfl) rfl
theorem q5251 : (Jvm.Cond.methodLink "LinkedTongueModel" (1398 : Nat) ({ cls := "LinkedTongueModel", name := "isSuch", desc := "(IJI)Z" } : Jvm.MethodName)) ∈ lw_all := lw_g (lw_at lw_m21 150 rfl) rfl
theorem q5252 : (Jvm.Cond.privateMethod ({ cls := "LinkedTongueModel", name := "isSuch", desc := "(IJI)Z" } : Jvm.MethodName)) ∈ lw_tbl := lw_at lw_m21 151 rfl
theorem q5253 : (Jvm.Cond.instanceMethod ({ cls := "LinkedTongueModel", name := "isSuch", desc := "(IJI)Z" } : Jvm.MethodName)) ∈ lw_all := lw_g (lw_at lw_m21 152 rfl) rfl
theorem q5254 : (Jvm.Cond.code ({ cls := "LinkedTongueModel", name := "isSuch", desc := "(IJI)Z" } : Jvm.MethodName) prog_49_method_194_code (5 : Nat) (Option.some Jvm.ClassFile.FieldType.boolean)) ∈ lw_all := lw_g (lw_at lw_m21 153 rfl) rfl
theorem q5255 : (Jvm.Cond.methodLink "LinkedTongueModel" (1101 : Nat) ({ cls := "LinkedTongueModel", name := "returns", desc := "()V" } : Jvm.MethodName)) ∈ lw_all := lw_g (lw_at lw_m21 154 rfl) rfl
theorem q5256 : (Jvm.Cond.privateMethod ({ cls := "LinkedTongueModel", name := "returns", desc := "()V" } : Jvm.MethodName)) ∈ lw_tbl := lw_at lw_m21 155 rfl
theorem q5257 : (Jvm.Cond.instanceMethod ({ cls := "LinkedTongueModel", name := "returns", desc := "()V" } : Jvm.MethodName)) ∈ lw_all := lw_g (lw_at lw_m21 156 rfl) rfl
theorem q5258 : (Jvm.Cond.code ({ cls := "LinkedTongueModel", name := "returns", desc := "()V" } : Jvm.MethodName) prog_49_method_150_code (2 : Nat) (Option.none : Option Jvm.ClassFile.FieldType)) ∈ lw_all := lw_g (lw_at lw_m21 157 rfl) rfl
theorem q5259 : (Jvm.Cond.methodLink "LinkedTongueModel" (1104 : Nat) ({ cls := "LinkedTongueModel", name := "pop", desc := "()V" } : Jvm.MethodName)) ∈ lw_all := lw_g (lw_at lw_m21 158 rfl) rfl
theorem q5260 : (Jvm.Cond.privateMethod ({ cls := "LinkedTongueModel", name := "pop", desc := "()V" } : Jvm.MethodName)) ∈ lw_tbl := lw_at lw_m21 159 rfl
theorem q5261 : (Jvm.Cond.instanceMethod ({ cls := "LinkedTongueModel", name := "pop", desc := "()V" } : Jvm.MethodName)) ∈ lw_all := lw_g (lw_at lw_m21 160 rfl) rfl
theorem q5262 : (Jvm.Cond.code ({ cls := "LinkedTongueModel", name := "pop", desc := "()V" } : Jvm.MethodName) prog_49_method_132_code (1 : Nat) (Option.none : Option Jvm.ClassFile.FieldType)) ∈ lw_all := lw_g (lw_at lw_m21 161 rfl) rfl
theorem q5263 : (Jvm.Cond.methodLink "LinkedTongueModel" (1081 : Nat) ({ cls := "LinkedTongueModel", name := "finishes", desc := "(IIJ)V" } : Jvm.MethodName)) ∈ lw_all := lw_g (lw_at lw_m21 162 rfl) rfl
theorem q5264 : (Jvm.Cond.privateMethod ({ cls := "LinkedTongueModel", name := "finishes", desc := "(IIJ)V" } : Jvm.MethodName)) ∈ lw_tbl := lw_at lw_m21 163 rfl
theorem q5265 : (Jvm.Cond.instanceMethod ({ cls := "LinkedTongueModel", name := "finishes", desc := "(IIJ)V" } : Jvm.MethodName)) ∈ lw_all := lw_g (lw_at lw_m21 164 rfl) rfl
theorem q5266 : (Jvm.Cond.code ({ cls := "LinkedTongueModel", name := "finishes", desc := "(IIJ)V" } : Jvm.MethodName) prog_49_method_138_code (5 : Nat) (Option.none : Option Jvm.ClassFile.FieldType)) ∈ lw_all := lw_g (lw_at lw_m21 165 rfl) rfl
theorem q5267 : (Jvm.Cond.methodLink "LinkedTongueModel" (1095 : Nat) ({ cls := "LinkedTongueModel", name := "thrownIs", desc := "(IJ)V" } : Jvm.MethodName)) ∈ lw_all := lw_g (lw_at lw_m21 166 rfl) rfl
theorem q5268 : (Jvm.Cond.privateMethod ({ cls := "LinkedTongueModel", name := "thrownIs", desc := "(IJ)V" } : Jvm.MethodName)) ∈ lw_tbl := lw_at lw_m21 167 rfl
theorem q5269 : (Jvm.Cond.instanceMethod ({ cls := "LinkedTongueModel", name := "thrownIs", desc := "(IJ)V" } : Jvm.MethodName)) ∈ lw_all := lw_g (lw_at lw_m21 168 rfl) rfl
theorem q5270 : (Jvm.Cond.code ({ cls := "LinkedTongueModel", name := "thrownIs", desc := "(IJ)V" } : Jvm.MethodName) prog_49_method_139_code (5 : Nat) (Option.none : Option Jvm.ClassFile.FieldType)) ∈ lw_all := lw_g (lw_at lw_m21 169 rfl) rfl
theorem q5271 : (Jvm.Cond.methodLink "LinkedTongueModel" (1107 : Nat) ({ cls := "LinkedTongueModel", name := "variables", desc := "(III)V" } : Jvm.MethodName)) ∈ lw_all := lw_g (lw_at lw_m21 170 rfl) rfl
theorem q5272 : (Jvm.Cond.privateMethod ({ cls := "LinkedTongueModel", name := "variables", desc := "(III)V" } : Jvm.MethodName)) ∈ lw_tbl := lw_at lw_m21 171 rfl
theorem q5273 : (Jvm.Cond.instanceMethod ({ cls := "LinkedTongueModel", name := "variables", desc := "(III)V" } : Jvm.MethodName)) ∈ lw_all := lw_g (lw_at lw_m21 172 rfl) rfl
theorem q5274 : (Jvm.Cond.code ({ cls := "LinkedTongueModel", name := "variables", desc := "(III)V" } : Jvm.MethodName) prog_49_method_143_code (6 : Nat) (Option.none : Option Jvm.ClassFile.FieldType)) ∈ lw_all := lw_g (lw_at lw_m21 173 rfl) rfl
theorem q5275 : (Jvm.Cond.methodLink "LinkedTongueModel" (1115 : Nat) ({ cls := "LinkedTongueModel", name := "callOut", desc := "(I)I" } : Jvm.MethodName)) ∈ lw_all := lw_g (lw_at lw_m21 174 rfl) rfl
theorem q5276 : (Jvm.Cond.privateMethod ({ cls := "LinkedTongueModel", name := "callOut", desc := "(I)I" } : Jvm.MethodName)) ∈ lw_tbl := lw_at lw_m21 175 rfl
theorem q5277 : (Jvm.Cond.instanceMethod ({ cls := "LinkedTongueModel", name := "callOut", desc := "(I)I" } : Jvm.MethodName)) ∈ lw_all := lw_g (lw_at lw_m21 176 rfl) rfl
theorem q5278 : (Jvm.Cond.code ({ cls := "LinkedTongueModel", name := "callOut", desc := "(I)I" } : Jvm.MethodName) prog_49_method_142_code (4 : Nat) (Option.some Jvm.ClassFile.FieldType.int)) ∈ lw_all := lw_g (lw_at lw_m21 177 rfl) rfl
theorem q5279 : (Jvm.Cond.methodLink "LinkedTongueModel" (1118 : Nat) ({ cls := "LinkedTongueModel", name := "mayPile", desc := "()V" } : Jvm.MethodName)) ∈ lw_all := lw_g (lw_at lw_m21 178 rfl) rfl
theorem q5280 : (Jvm.Cond.privateMethod ({ cls := "LinkedTongueModel", name := "mayPile", desc := "()V" } : Jvm.MethodName)) ∈ lw_tbl := lw_at lw_m21 179 rfl
theorem q5281 : (Jvm.Cond.instanceMethod ({ cls := "LinkedTongueModel", name := "mayPile", desc := "()V" } : Jvm.MethodName)) ∈ lw_all := lw_g (lw_at lw_m21 180 rfl) rfl
theorem q5282 : (Jvm.Cond.code ({ cls := "LinkedTongueModel", name := "mayPile", desc := "()V" } : Jvm.MethodName) prog_49_method_130_code (1 : Nat) (Option.none : Option Jvm.ClassFile.FieldType)) ∈ lw_all := lw_g (lw_at lw_m21 181 rfl) rfl
theorem q5283 : (Jvm.Cond.methodLink "LinkedTongueModel" (1109 : Nat) ({ cls := "LinkedTongueModel", name := "operators", desc := "(I)V" } : Jvm.MethodName)) ∈ lw_all := lw_g (lw_at lw_m21 182 rfl) rfl
theorem q5284 : (Jvm.Cond.privateMethod ({ cls := "LinkedTongueModel", name := "operators", desc := "(I)V" } : Jvm.MethodName)) ∈ lw_tbl := lw_at lw_m21 183 rfl
theorem q5285 : (Jvm.Cond.instanceMethod ({ cls := "LinkedTongueModel", name := "operators", desc := "(I)V" } : Jvm.MethodName)) ∈ lw_all := lw_g (lw_at lw_m21 184 rfl) rfl
theorem q5286 : (Jvm.Cond.code ({ cls := "LinkedTongueModel", name := "operators", desc := "(I)V" } : Jvm.MethodName) prog_49_method_144_code (5 : Nat) (Option.none : Option Jvm.ClassFile.FieldType)) ∈ lw_all := lw_g (lw_at lw_m21 185 rfl) rfl
theorem q5287 : (Jvm.Cond.methodLink "LinkedTongueModel" (1121 : Nat) ({ cls := "LinkedTongueModel", name := "isNot", desc := "(IJ)Z" } : Jvm.MethodName)) ∈ lw_all := lw_g (lw_at lw_m21 186 rfl) rfl
theorem q5288 : (Jvm.Cond.privateMethod ({ cls := "LinkedTongueModel", name := "isNot", desc := "(IJ)Z" } : Jvm.MethodName)) ∈ lw_tbl := lw_at lw_m21 187 rfl
theorem q5289 : (Jvm.Cond.instanceMethod ({ cls := "LinkedTongueModel", name := "isNot", desc := "(IJ)Z" } : Jvm.MethodName)) ∈ lw_all := lw_g (lw_at lw_m21 188 rfl) rfl
theorem q5290 : (Jvm.Cond.code ({ cls := "LinkedTongueModel", name := "isNot", desc := "(IJ)Z" } : Jvm.MethodName) prog_49_method_133_code (4 : Nat) (Option.some Jvm.ClassFile.FieldType.boolean)) ∈ lw_all := lw_g (lw_at lw_m21 189 rfl) rfl
theorem q5291 : (Jvm.Cond.methodLink "LinkedTongueModel" (1125 : Nat) ({ cls := "LinkedTongueModel", name := "numbers", desc := "(III)V" } : Jvm.MethodName)) ∈ lw_all := lw_g (lw_at lw_m21 190 rfl) rfl
theorem q5292 : (Jvm.Cond.privateMethod ({ cls := "LinkedTongueModel", name := "numbers", desc := "(III)V" } : Jvm.MethodName)) ∈ lw_tbl := lw_at lw_m21 191 rfl
theorem q5293 : (Jvm.Cond.instanceMethod ({ cls := "LinkedTongueModel", name := "numbers", desc := "(III)V" } : Jvm.MethodName)) ∈ lw_all := lw_g (lw_at lw_m21 192 rfl) rfl
theorem q5294 : (Jvm.Cond.code ({ cls := "LinkedTongueModel", name := "numbers", desc := "(III)V" } : Jvm.MethodName) prog_49_method_146_code (8 : Nat) (Option.none : Option Jvm.ClassFile.FieldType)) ∈ lw_all := lw_g (lw_at lw_m21 193 rfl) rfl
theorem q5295 : (Jvm.Cond.methodLink "LinkedTongueModel" (1131 : Nat) ({ cls := "LinkedTongueModel", name := "prints", desc := "(I)Z" } : Jvm.MethodName)) ∈ lw_all := lw_g (lw_at lw_m21 194 rfl) rfl
theorem q5296 : (Jvm.Cond.privateMethod ({ cls := "LinkedTongueModel", name := "prints", desc := "(I)Z" } : Jvm.MethodName)) ∈ lw_tbl := lw_at lw_m21 195 rfl
theorem q5297 : (Jvm.Cond.instanceMethod ({ cls := "LinkedTongueModel", name := "prints", desc := "(I)Z" } : Jvm.MethodName)) ∈ lw_all := lw_g (lw_at lw_m21 196 rfl) rfl
theorem q5298 : (Jvm.Cond.code ({ cls := "LinkedTongueModel", name := "prints", desc := "(I)Z" } : Jvm.MethodName) prog_49_method_145_code (2 : Nat) (Option.some Jvm.ClassFile.FieldType.boolean)) ∈ lw_all := lw_g (lw_at lw_m21 197 rfl) rfl
theorem q5299 : (Jvm.Cond.methodLink "LinkedTongueModel" (1134 : Nat) ({ cls := "LinkedTongueModel", name := "joined", desc := "(IJIJ)I" } : Jvm.MethodName)) ∈ lw_all := lw_g (lw_at lw_m21 198 rfl) rfl
theorem q5300 : (Jvm.Cond.privateMethod ({ cls := "LinkedTongueModel", name := "joined", desc := "(IJIJ)I" } : Jvm.MethodName)) ∈ lw_tbl := lw_at lw_m21 199 rfl
theorem q5301 : (Jvm.Cond.instanceMethod ({ cls := "LinkedTongueModel", name := "joined", desc := "(IJIJ)I" } : Jvm.MethodName)) ∈ lw_all := lw_g (lw_at lw_m21 200 rfl) rfl
theorem q5302 : (Jvm.Cond.code ({ cls := "LinkedTongueModel", name := "joined", desc := "(IJIJ)I" } : Jvm.MethodName) prog_49_method_106_code (11 : Nat) (Option.some Jvm.ClassFile.FieldType.int)) ∈ lw_all := lw_g (lw_at lw_m21 201 rfl) rfl
theorem q5303 : (Jvm.Cond.methodLink "LinkedTongueModel" (972 : Nat) ({ cls := "LinkedTongueModel", name := "print", desc := "(IJ)V" } : Jvm.MethodName)) ∈ lw_all := lw_g (lw_at lw_m21 202 rfl) rfl
theorem q5304 : (Jvm.Cond.privateMethod ({ cls := "LinkedTongueModel", name := "print", desc := "(IJ)V" } : Jvm.MethodName)) ∈ lw_tbl := lw_at lw_m21 203 rfl
theorem q5305 : (Jvm.Cond.instanceMethod ({ cls := "LinkedTongueModel", name := "print", desc := "(IJ)V" } : Jvm.MethodName)) ∈ lw_all := lw_g (lw_at lw_m21 204 rfl) rfl
theorem q5306 : (Jvm.Cond.code ({ cls := "LinkedTongueModel", name := "print", desc := "(IJ)V" } : Jvm.MethodName) prog_49_method_102_code (4 : Nat) (Option.none : Option Jvm.ClassFile.FieldType)) ∈ lw_all := lw_g (lw_at lw_m21 205 rfl) rfl
theorem q5307 : (Jvm.Cond.methodLink "LinkedTongueModel" (938 : Nat) ({ cls := "LinkedTongueModel", name := "spell", desc := "(Ljava/lang/String;)V" } : Jvm.MethodName)) ∈ lw_all := lw_g (lw_at lw_m21 206 rfl) rfl
theorem q5308 : (Jvm.Cond.privateMethod ({ cls := "LinkedTongueModel", name := "spell", desc := "(Ljava/lang/String;)V" } : Jvm.MethodName)) ∈ lw_tbl := lw_at lw_m21 207 rfl
theorem q5309 : (Jvm.Cond.instanceMethod ({ cls := "LinkedTongueModel", name := "spell", desc := "(Ljava/lang/String;)V" } : Jvm.MethodName)) ∈ lw_all := lw_g (lw_at lw_m21 208 rfl) rfl
theorem q5310 : (Jvm.Cond.code ({ cls := "LinkedTongueModel", name := "spell", desc := "(Ljava/lang/String;)V" } : Jvm.MethodName) prog_49_method_99_code (3 : Nat) (Option.none : Option Jvm.ClassFile.FieldType)) ∈ lw_all := lw_g (lw_at lw_m21 209 rfl) rfl
theorem q5311 : (Jvm.Cond.methodLink "LinkedTongueModel" (946 : Nat) ({ cls := "LinkedTongueModel", name := "spellNumber", desc := "(J)V" } : Jvm.MethodName)) ∈ lw_all := lw_g (lw_at lw_m21 210 rfl) rfl
theorem q5312 : (Jvm.Cond.privateMethod ({ cls := "LinkedTongueModel", name := "spellNumber", desc := "(J)V" } : Jvm.MethodName)) ∈ lw_tbl := lw_at lw_m21 211 rfl
theorem q5313 : (Jvm.Cond.instanceMethod ({ cls := "LinkedTongueModel", name := "spellNumber", desc := "(J)V" } : Jvm.MethodName)) ∈ lw_all := lw_g (lw_at lw_m21 212 rfl) rfl
theorem q5314 : (Jvm.Cond.code ({ cls := "LinkedTongueModel", name := "spellNumber", desc := "(J)V" } : Jvm.MethodName) prog_49_method_100_code (7 : Nat) (Option.none : Option Jvm.ClassFile.FieldType)) ∈ lw_all := lw_g (lw_at lw_m21 213 rfl) rfl
theorem q5315 : (Jvm.Cond.stringRef "LinkedTongueModel" (936 : Nat) "-") ∈ lw_tbl := lw_at lw_m21 214 rfl
theorem q5316 : (Jvm.Cond.constantLong "LinkedTongueModel" (942 : Nat) (9 : Int64)) ∈ lw_all := lw_g (lw_at lw_m21 215 rfl) rfl
theorem q5317 : (Jvm.Cond.constantLong "LinkedTongueModel" (944 : Nat) (-9 : Int64)) ∈ lw_all := lw_g (lw_at lw_m21 216 rfl) rfl
theorem q5318 : (Jvm.Cond.stringRef "LinkedTongueModel" (949 : Nat) "{}") ∈ lw_tbl := lw_at lw_m21 217 rfl
theorem q5319 : (Jvm.Cond.stringRef "LinkedTongueModel" (951 : Nat) "[]") ∈ lw_tbl := lw_at lw_m21 218 rfl
theorem q5320 : (Jvm.Cond.methodLink "LinkedTongueModel" (953 : Nat) ({ cls := "LinkedTongueModel", name := "spellClass", desc := "(I)V" } : Jvm.MethodName)) ∈ lw_all := lw_g (lw_at lw_m21 219 rfl) rfl
theorem q5321 : (Jvm.Cond.privateMethod ({ cls := "LinkedTongueModel", name := "spellClass", desc := "(I)V" } : Jvm.MethodName)) ∈ lw_tbl := lw_at lw_m21 220 rfl
theorem q5322 : (Jvm.Cond.instanceMethod ({ cls := "LinkedTongueModel", name := "spellClass", desc := "(I)V" } : Jvm.MethodName)) ∈ lw_all := lw_g (lw_at lw_m21 221 rfl) rfl
theorem q5323 : (Jvm.Cond.code ({ cls := "LinkedTongueModel", name := "spellClass", desc := "(I)V" } : Jvm.MethodName) prog_49_method_101_code (3 : Nat) (Option.none : Option Jvm.ClassFile.FieldType)) ∈ lw_all := lw_g (lw_at lw_m21 222 rfl) rfl
theorem q5324 : (Jvm.Cond.stringRef "LinkedTongueModel" (956 : Nat) "@") ∈ lw_tbl := lw_at lw_m21 223 rfl
theorem q5325 : (Jvm.Cond.constantLong "LinkedTongueModel" (1138 : Nat) (-1 : Int64)) ∈ lw_all := lw_g (lw_at lw_m21 224 rfl) rfl
theorem q5326 : (Jvm.Cond.methodLink "LinkedTongueModel" (1128 : Nat) ({ cls := "LinkedTongueModel", name := "compares", desc := "(III)V" } : Jvm.MethodName)) ∈ lw_all := lw_g (lw_at lw_m21 225 rfl) rfl
theorem q5327 : (Jvm.Cond.privateMethod ({ cls := "LinkedTongueModel", name := "compares", desc := "(III)V" } : Jvm.MethodName)) ∈ lw_tbl := lw_at lw_m21 226 rfl
theorem q5328 : (Jvm.Cond.instanceMethod ({ cls := "LinkedTongueModel", name := "compares", desc := "(III)V" } : Jvm.MethodName)) ∈ lw_all := lw_g (lw_at lw_m21 227 rfl) rfl
theorem q5329 : (Jvm.Cond.code ({ cls := "LinkedTongueModel", name := "compares", desc := "(III)V" } : Jvm.MethodName) prog_49_method_147_code (7 : Nat) (Option.none : Option Jvm.ClassFile.FieldType)) ∈ lw_all := lw_g (lw_at lw_m21 228 rfl) rfl
theorem q5330 : (Jvm.Cond.methodLink "LinkedTongueModel" (1140 : Nat) ({ cls := "LinkedTongueModel", name := "alike", desc := "(IJIJ)Z" } : Jvm.MethodName)) ∈ lw_all := lw_g (lw_at lw_m21 229 rfl) rfl
theorem q5331 : (Jvm.Cond.privateMethod ({ cls := "LinkedTongueModel", name := "alike", desc := "(IJIJ)Z" } : Jvm.MethodName)) ∈ lw_tbl := lw_at lw_m21 230 rfl
theorem q5332 : (Jvm.Cond.instanceMethod ({ cls := "LinkedTongueModel", name := "alike", desc := "(IJIJ)Z" } : Jvm.MethodName)) ∈ lw_all := lw_g (lw_at lw_m21 231 rfl) rfl
theorem q5333 : (Jvm.Cond.code ({ cls := "LinkedTongueModel", name := "alike", desc := "(IJIJ)Z" } : Jvm.MethodName) prog_49_method_109_code (7 : Nat) (Option.some Jvm.ClassFile.FieldType.boolean)) ∈ lw_all := lw_g (lw_at lw_m21 232 rfl) rfl
theorem q5334 : (Jvm.Cond.methodLink "LinkedTongueModel" (976 : Nat) ({ cls := "LinkedTongueModel", name := "compareTexts", desc := "(II)I" } : Jvm.MethodName)) ∈ lw_all := lw_g (lw_at lw_m21 233 rfl) rfl
theorem q5335 : (Jvm.Cond.privateMethod ({ cls := "LinkedTongueModel", name := "compareTexts", desc := "(II)I" } : Jvm.MethodName)) ∈ lw_tbl := lw_at lw_m21 234 rfl
theorem q5336 : (Jvm.Cond.instanceMethod ({ cls := "LinkedTongueModel", name := "compareTexts", desc := "(II)I" } : Jvm.MethodName)) ∈ lw_all := lw_g (lw_at lw_m21 235 rfl) rfl
theorem q5337 : (Jvm.Cond.code ({ cls := "LinkedTongueModel", name := "compareTexts", desc := "(II)I" } : Jvm.MethodName) prog_49_method_107_code (7 : Nat) (Option.some Jvm.ClassFile.FieldType.int)) ∈ lw_all := lw_g (lw_at lw_m21 236 rfl) rfl
theorem q5338 : (Jvm.Cond.methodLink "LinkedTongueModel" (979 : Nat) ({ cls := "LinkedTongueModel", name := "isSame", desc := "(IJIJ)Z" } : Jvm.MethodName)) ∈ lw_all := lw_g (lw_at lw_m21 237 rfl) rfl
theorem q5339 : (Jvm.Cond.static ({ cls := "LinkedTongueModel", name := "isSame", desc := "(IJIJ)Z" } : Jvm.MethodName)) ∈ lw_all := lw_g (lw_at lw_m21 238 rfl) rfl
theorem q5340 : (Jvm.Cond.code ({ cls := "LinkedTongueModel", name := "isSame", desc := "(IJIJ)Z" } : Jvm.MethodName) prog_49_method_108_code (6 : Nat) (Option.some Jvm.ClassFile.FieldType.boolean)) ∈ lw_all := lw_g (lw_at lw_m21 239 rfl) rfl
theorem q5341 : (Jvm.Cond.methodLink "LinkedTongueModel" (1143 : Nat) ({ cls := "java/lang/Long", name := "compare", desc := "(JJ)I" } : Jvm.MethodName)) ∈ lw_all := lw_g (lw_at lw_m22 0 rfl) rfl
theorem q5342 : (Jvm.Cond.methodLink "LinkedTongueModel" (1112 : Nat) ({ cls := "LinkedTongueModel", name := "others", desc := "(II)V" } : Jvm.MethodName)) ∈ lw_all := lw_g (lw_at lw_m22 1 rfl) rfl
theorem q5343 : (Jvm.Cond.privateMethod ({ cls := "LinkedTongueModel", name := "others", desc := "(II)V" } : Jvm.MethodName)) ∈ lw_tbl := lw_at lw_m22 2 rfl
theorem q5344 : (Jvm.Cond.instanceMethod ({ cls := "LinkedTongueModel", name := "others", desc := "(II)V" } : Jvm.MethodName)) ∈ lw_all := lw_g (lw_at lw_m22 3 rfl) rfl
theorem q5345 : (Jvm.Cond.code ({ cls := "LinkedTongueModel", name := "others", desc := "(II)V" } : Jvm.MethodName) prog_49_method_148_code (7 : Nat) (Option.none : Option Jvm.ClassFile.FieldType)) ∈ lw_all := lw_g (lw_at lw_m22 4 rfl) rfl
theorem q5346 : (Jvm.Cond.methodLink "LinkedTongueModel" (1152 : Nat) ({ cls := "LinkedTongueModel", name := "list", desc := "(I)V" } : Jvm.MethodName)) ∈ lw_all := lw_g (lw_at lw_m22 5 rfl) rfl
theorem q5347 : (Jvm.Cond.privateMethod ({ cls := "LinkedTongueModel", name := "list", desc := "(I)V" } : Jvm.MethodName)) ∈ lw_tbl := lw_at lw_m22 6 rfl
theorem q5348 : (Jvm.Cond.instanceMethod ({ cls := "LinkedTongueModel", name := "list", desc := "(I)V" } : Jvm.MethodName)) ∈ lw_all := lw_g (lw_at lw_m22 7 rfl) rfl
theorem q5349 : (Jvm.Cond.code ({ cls := "LinkedTongueModel", name := "list", desc := "(I)V" } : Jvm.MethodName) prog_49_method_149_code (4 : Nat) (Option.none : Option Jvm.ClassFile.FieldType)) ∈ lw_all := lw_g (lw_at lw_m22 8 rfl) rfl
theorem q5350 : (Jvm.Cond.methodLink "LinkedTongueModel" (1155 : Nat) ({ cls := "LinkedTongueModel", name := "builtins", desc := "(I)V" } : Jvm.MethodName)) ∈ lw_all := lw_g (lw_at lw_m22 9 rfl) rfl
theorem q5351 : (Jvm.Cond.privateMethod ({ cls := "LinkedTongueModel", name := "builtins", desc := "(I)V" } : Jvm.MethodName)) ∈ lw_tbl := lw_at lw_m22 10 rfl
theorem q5352 : (Jvm.Cond.instanceMethod ({ cls := "LinkedTongueModel", name := "builtins", desc := "(I)V" } : Jvm.MethodName)) ∈ lw_all := lw_g (lw_at lw_m22 11 rfl) rfl
theorem q5353 : (Jvm.Cond.code ({ cls := "LinkedTongueModel", name := "builtins", desc := "(I)V" } : Jvm.MethodName) prog_49_method_151_code (8 : Nat) (Option.none : Option Jvm.ClassFile.FieldType)) ∈ lw_all := lw_g (lw_at lw_m22 12 rfl) rfl
theorem q5354 : (Jvm.Cond.methodLink "LinkedTongueModel" (1162 : Nat) ({ cls := "LinkedTongueModel", name := "shows", desc := "(IJ)V" } : Jvm.MethodName)) ∈ lw_all := lw_g (lw_at lw_m22 13 rfl) rfl
theorem q5355 : (Jvm.Cond.privateMethod ({ cls := "LinkedTongueModel", name := "shows", desc := "(IJ)V" } : Jvm.MethodName)) ∈ lw_tbl := lw_at lw_m22 14 rfl
theorem q5356 : (Jvm.Cond.instanceMethod ({ cls := "LinkedTongueModel", name := "shows", desc := "(IJ)V" } : Jvm.MethodName)) ∈ lw_all := lw_g (lw_at lw_m22 15 rfl) rfl
theorem q5357 : (Jvm.Cond.code ({ cls := "LinkedTongueModel", name := "shows", desc := "(IJ)V" } : Jvm.MethodName) prog_49_method_152_code (8 : Nat) (Option.none : Option Jvm.ClassFile.FieldType)) ∈ lw_all := lw_g (lw_at lw_m22 16 rfl) rfl
theorem q5358 : (Jvm.Cond.methodLink "LinkedTongueModel" (1165 : Nat) ({ cls := "LinkedTongueModel", name := "put", desc := "(IIJ)V" } : Jvm.MethodName)) ∈ lw_all := lw_g (lw_at lw_m22 17 rfl) rfl
theorem q5359 : (Jvm.Cond.privateMethod ({ cls := "LinkedTongueModel", name := "put", desc := "(IIJ)V" } : Jvm.MethodName)) ∈ lw_tbl := lw_at lw_m22 18 rfl
theorem q5360 : (Jvm.Cond.instanceMethod ({ cls := "LinkedTongueModel", name := "put", desc := "(IIJ)V" } : Jvm.MethodName)) ∈ lw_all := lw_g (lw_at lw_m22 19 rfl) rfl
theorem q5361 : (Jvm.Cond.code ({ cls := "LinkedTongueModel", name := "put", desc := "(IIJ)V" } : Jvm.MethodName) prog_49_method_153_code (5 : Nat) (Option.none : Option Jvm.ClassFile.FieldType)) ∈ lw_all := lw_g (lw_at lw_m22 20 rfl) rfl
theorem q5362 : (Jvm.Cond.methodLink "LinkedTongueModel" (1174 : Nat) ({ cls := "LinkedTongueModel", name := "puts", desc := "(II)V" } : Jvm.MethodName)) ∈ lw_all := lw_g (lw_at lw_m22 21 rfl) rfl
theorem q5363 : (Jvm.Cond.privateMethod ({ cls := "LinkedTongueModel", name := "puts", desc := "(II)V" } : Jvm.MethodName)) ∈ lw_tbl := lw_at lw_m22 22 rfl
theorem q5364 : (Jvm.Cond.instanceMethod ({ cls := "LinkedTongueModel", name := "puts", desc := "(II)V" } : Jvm.MethodName)) ∈ lw_all := lw_g (lw_at lw_m22 23 rfl) rfl
theorem q5365 : (Jvm.Cond.code ({ cls := "LinkedTongueModel", name := "puts", desc := "(II)V" } : Jvm.MethodName) prog_49_method_154_code (3 : Nat) (Option.none : Option Jvm.ClassFile.FieldType)) ∈ lw_all := lw_g (lw_at lw_m22 24 rfl) rfl
theorem q5366 : (Jvm.Cond.methodLink "LinkedTongueModel" (1177 : Nat) ({ cls := "LinkedTongueModel", name := "turns", desc := "(II)V" } : Jvm.MethodName)) ∈ lw_all := lw_g (lw_at lw_m22 25 rfl) rfl
theorem q5367 : (Jvm.Cond.privateMethod ({ cls := "LinkedTongueModel", name := "turns", desc := "(II)V" } : Jvm.MethodName)) ∈ lw_tbl := lw_at lw_m22 26 rfl
theorem q5368 : (Jvm.Cond.instanceMethod ({ cls := "LinkedTongueModel", name := "turns", desc := "(II)V" } : Jvm.MethodName)) ∈ lw_all := lw_g (lw_at lw_m22 27 rfl) rfl
theorem q5369 : (Jvm.Cond.code ({ cls := "LinkedTongueModel", name := "turns", desc := "(II)V" } : Jvm.MethodName) prog_49_method_157_code (6 : Nat) (Option.none : Option Jvm.ClassFile.FieldType)) ∈ lw_all := lw_g (lw_at lw_m22 28 rfl) rfl
theorem q5370 : (Jvm.Cond.methodLink "LinkedTongueModel" (1205 : Nat) ({ cls := "LinkedTongueModel", name := "rebuilt", desc := "(III)I" } : Jvm.MethodName)) ∈ lw_all := lw_g (lw_at lw_m22 29 rfl) rfl
theorem q5371 : (Jvm.Cond.privateMethod ({ cls := "LinkedTongueModel", name := "rebuilt", desc := "(III)I" } : Jvm.MethodName)) ∈ lw_tbl := lw_at lw_m22 30 rfl
theorem q5372 : (Jvm.Cond.instanceMethod ({ cls := "LinkedTongueModel", name := "rebuilt", desc := "(III)I" } : Jvm.MethodName)) ∈ lw_all := lw_g (lw_at lw_m22 31 rfl) rfl
theorem q5373 : (Jvm.Cond.code ({ cls := "LinkedTongueModel", name := "rebuilt", desc := "(III)I" } : Jvm.MethodName) prog_49_method_98_code (8 : Nat) (Option.some Jvm.ClassFile.FieldType.int)) ∈ lw_all := lw_g (lw_at lw_m22 32 rfl) rfl
theorem q5374 : (Jvm.Cond.methodLink "LinkedTongueModel" (1180 : Nat) ({ cls := "LinkedTongueModel", name := "drops", desc := "(II)Z" } : Jvm.MethodName)) ∈ lw_all := lw_g (lw_at lw_m22 33 rfl) rfl
theorem q5375 : (Jvm.Cond.privateMethod ({ cls := "LinkedTongueModel", name := "drops", desc := "(II)Z" } : Jvm.MethodName)) ∈ lw_tbl := lw_at lw_m22 34 rfl
theorem q5376 : (Jvm.Cond.instanceMethod ({ cls := "LinkedTongueModel", name := "drops", desc := "(II)Z" } : Jvm.MethodName)) ∈ lw_all := lw_g (lw_at lw_m22 35 rfl) rfl
theorem q5377 : (Jvm.Cond.code ({ cls := "LinkedTongueModel", name := "drops", desc := "(II)Z" } : Jvm.MethodName) prog_49_method_158_code (6 : Nat) (Option.some Jvm.ClassFile.FieldType.boolean)) ∈ lw_all := lw_g (lw_at lw_m22 36 rfl) rfl
theorem q5378 : (Jvm.Cond.methodLink "LinkedTongueModel" (1183 : Nat) ({ cls := "LinkedTongueModel", name := "has", desc := "(II)Z" } : Jvm.MethodName)) ∈ lw_all := lw_g (lw_at lw_m22 37 rfl) rfl
theorem q5379 : (Jvm.Cond.privateMethod ({ cls := "LinkedTongueModel", name := "has", desc := "(II)Z" } : Jvm.MethodName)) ∈ lw_tbl := lw_at lw_m22 38 rfl
theorem q5380 : (Jvm.Cond.instanceMethod ({ cls := "LinkedTongueModel", name := "has", desc := "(II)Z" } : Jvm.MethodName)) ∈ lw_all := lw_g (lw_at lw_m22 39 rfl) rfl
theorem q5381 : (Jvm.Cond.code ({ cls := "LinkedTongueModel", name := "has", desc := "(II)Z" } : Jvm.MethodName) prog_49_method_159_code (5 : Nat) (Option.some Jvm.ClassFile.FieldType.boolean)) ∈ lw_all := lw_g (lw_at lw_m22 40 rfl) rfl
theorem q5382 : (Jvm.Cond.methodLink "LinkedTongueModel" (1186 : Nat) ({ cls := "LinkedTongueModel", name := "spellKind", desc := "(IJ)V" } : Jvm.MethodName)) ∈ lw_all := lw_g (lw_at lw_m22 41 rfl) rfl
theorem q5383 : (Jvm.Cond.privateMethod ({ cls := "LinkedTongueModel", name := "spellKind", desc := "(IJ)V" } : Jvm.MethodName)) ∈ lw_tbl := lw_at lw_m22 42 rfl
theorem q5384 : (Jvm.Cond.instanceMethod ({ cls := "LinkedTongueModel", name := "spellKind", desc := "(IJ)V" } : Jvm.MethodName)) ∈ lw_all := lw_g (lw_at lw_m22 43 rfl) rfl
theorem q5385 : (Jvm.Cond.code ({ cls := "LinkedTongueModel", name := "spellKind", desc := "(IJ)V" } : Jvm.MethodName) prog_49_method_155_code (4 : Nat) (Option.none : Option Jvm.ClassFile.FieldType)) ∈ lw_all := lw_g (lw_at lw_m22 44 rfl) rfl
theorem q5386 : (Jvm.Cond.stringRef "LinkedTongueModel" (1195 : Nat) "bool") ∈ lw_tbl := lw_at lw_m22 45 rfl
theorem q5387 : (Jvm.Cond.stringRef "LinkedTongueModel" (1197 : Nat) "int") ∈ lw_tbl := lw_at lw_m22 46 rfl
theorem q5388 : (Jvm.Cond.stringRef "LinkedTongueModel" (1199 : Nat) "long") ∈ lw_tbl := lw_at lw_m22 47 rfl
theorem q5389 : (Jvm.Cond.stringRef "LinkedTongueModel" (1201 : Nat) "text") ∈ lw_tbl := lw_at lw_m22 48 rfl
theorem q5390 : (Jvm.Cond.stringRef "LinkedTongueModel" (1202 : Nat) "object") ∈ lw_tbl := lw_at lw_m22 49 rfl
theorem q5391 : (Jvm.Cond.stringRef "LinkedTongueModel" (1203 : Nat) "list") ∈ lw_tbl := lw_at lw_m22 50 rfl
theorem q5392 : (Jvm.Cond.stringRef "LinkedTongueModel" (1204 : Nat) "host") ∈ lw_tbl := lw_at lw_m22 51 rfl
theorem q5393 : (Jvm.Cond.methodLink "LinkedTongueModel" (1192 : Nat) ({ cls := "LinkedTongueModel", name := "classNamed", desc := "(I)I" } : Jvm.MethodName)) ∈ lw_all := lw_g (lw_at lw_m22 52 rfl) rfl
theorem q5394 : (Jvm.Cond.privateMethod ({ cls := "LinkedTongueModel", name := "classNamed", desc := "(I)I" } : Jvm.MethodName)) ∈ lw_tbl := lw_at lw_m22 53 rfl
theorem q5395 : (Jvm.Cond.instanceMethod ({ cls := "LinkedTongueModel", name := "classNamed", desc := "(I)I" } : Jvm.MethodName)) ∈ lw_all := lw_g (lw_at lw_m22 54 rfl) rfl
theorem q5396 : (Jvm.Cond.code ({ cls := "LinkedTongueModel", name := "classNamed", desc := "(I)I" } : Jvm.MethodName) prog_49_method_156_code (6 : Nat) (Option.some Jvm.ClassFile.FieldType.int)) ∈ lw_all := lw_g (lw_at lw_m22 55 rfl) rfl
theorem q5398 : (Jvm.Cond.instanceMethod ({ cls := "LinkedTongueModel", name := "site", desc := "(II)I" } : Jvm.MethodName)) ∈ lw_all := lw_g (lw_at lw_m22 57 rfl) rfl
theorem q5399 : (Jvm.Cond.selects "LinkedTongueModel" ({ cls := "LinkedTongueModel", name := "site", desc := "(II)I" } : Jvm.MethodName) ({ cls := "LinkedTongueModel", name := "site", desc := "(II)I" } : Jvm.MethodName)) ∈ lw_all := lw_g (lw_at lw_m22 58 rfl) rfl
theorem q5400 : (Jvm.Cond.code ({ cls := "LinkedTongueModel", name := "site", desc := "(II)I" } : Jvm.MethodName) prog_49_method_196_code (3 : Nat) (Option.some Jvm.ClassFile.FieldType.int)) ∈ lw_all := lw_g (lw_at lw_m22 59 rfl) rfl
theorem q5402 : (Jvm.Cond.instanceMethod ({ cls := "LinkedTongueModel", name := "entry", desc := "(III)I" } : Jvm.MethodName)) ∈ lw_all := lw_g (lw_at lw_m22 61 rfl) rfl
theorem q5403 : (Jvm.Cond.selects "LinkedTongueModel" ({ cls := "LinkedTongueModel", name := "entry", desc := "(III)I" } : Jvm.MethodName) ({ cls := "LinkedTongueModel", name := "entry", desc := "(III)I" } : Jvm.MethodName)) ∈ lw_all := lw_g (lw_at lw_m22 62 rfl) rfl
theorem q5404 : (Jvm.Cond.code ({ cls := "LinkedTongueModel", name := "entry", desc := "(III)I" } : Jvm.MethodName) prog_49_method_197_code (5 : Nat) (Option.some Jvm.ClassFile.FieldType.int)) ∈ lw_all := lw_g (lw_at lw_m22 63 rfl) rfl
theorem q5406 : (Jvm.Cond.instanceMethod ({ cls := "LinkedTongueModel", name := "task", desc := "(II)I" } : Jvm.MethodName)) ∈ lw_all := lw_g (lw_at lw_m22 65 rfl) rfl
theorem q5407 : (Jvm.Cond.selects "LinkedTongueModel" ({ cls := "LinkedTongueModel", name := "task", desc := "(II)I" } : Jvm.MethodName) ({ cls := "LinkedTongueModel", name := "task", desc := "(II)I" } : Jvm.MethodName)) ∈ lw_all := lw_g (lw_at lw_m22 66 rfl) rfl
theorem q5408 : (Jvm.Cond.code ({ cls := "LinkedTongueModel", name := "task", desc := "(II)I" } : Jvm.MethodName) prog_49_method_198_code (4 : Nat) (Option.some Jvm.ClassFile.FieldType.int)) ∈ lw_all := lw_g (lw_at lw_m22 67 rfl) rfl
theorem q5410 : (Jvm.Cond.instanceMethod ({ cls := "LinkedTongueModel", name := "result", desc := "(II)J" } : Jvm.MethodName)) ∈ lw_all := lw_g (lw_at lw_m22 69 rfl) rfl
theorem q5411 : (Jvm.Cond.selects "LinkedTongueModel" ({ cls := "LinkedTongueModel", name := "result", desc := "(II)J" } : Jvm.MethodName) ({ cls := "LinkedTongueModel", name := "result", desc := "(II)J" } : Jvm.MethodName)) ∈ lw_all := lw_g (lw_at lw_m22 70 rfl) rfl
theorem q5412 : (Jvm.Cond.code ({ cls := "LinkedTongueModel", name := "result", desc := "(II)J" } : Jvm.MethodName) prog_49_method_200_code (3 : Nat) (Option.some Jvm.ClassFile.FieldType.long)) ∈ lw_all := lw_g (lw_at lw_m22 71 rfl) rfl
theorem q5413 : (Jvm.Cond.methodLink "LinkedTongueModel" (1402 : Nat) ({ cls := "LinkedTongueModel", name := "told", desc := "(IJI)J" } : Jvm.MethodName)) ∈ lw_all := lw_g (lw_at lw_m22 72 rfl) rfl
theorem q5414 : (Jvm.Cond.privateMethod ({ cls := "LinkedTongueModel", name := "told", desc := "(IJI)J" } : Jvm.MethodName)) ∈ lw_tbl := lw_at lw_m22 73 rfl
theorem q5415 : (Jvm.Cond.instanceMethod ({ cls := "LinkedTongueModel", name := "told", desc := "(IJI)J" } : Jvm.MethodName)) ∈ lw_all := lw_g (lw_at lw_m22 74 rfl) rfl
theorem q5416 : (Jvm.Cond.code ({ cls := "LinkedTongueModel", name := "told", desc := "(IJI)J" } : Jvm.MethodName) prog_49_method_199_code (5 : Nat) (Option.some Jvm.ClassFile.FieldType.long)) ∈ lw_all := lw_g (lw_at lw_m22 75 rfl) rfl
theorem q5418 : (Jvm.Cond.instanceMethod ({ cls := "LinkedTongueModel", name := "sign", desc := "(II)I" } : Jvm.MethodName)) ∈ lw_all := lw_g (lw_at lw_m22 77 rfl) rfl
theorem q5419 : (Jvm.Cond.selects "LinkedTongueModel" ({ cls := "LinkedTongueModel", name := "sign", desc := "(II)I" } : Jvm.MethodName) ({ cls := "LinkedTongueModel", name := "sign", desc := "(II)I" } : Jvm.MethodName)) ∈ lw_all := lw_g (lw_at lw_m22 78 rfl) rfl
theorem q5420 : (Jvm.Cond.code ({ cls := "LinkedTongueModel", name := "sign", desc := "(II)I" } : Jvm.MethodName) prog_49_method_201_code (5 : Nat) (Option.some Jvm.ClassFile.FieldType.int)) ∈ lw_all := lw_g (lw_at lw_m22 79 rfl) rfl
theorem q5422 : (Jvm.Cond.instanceMethod ({ cls := "LinkedTongueModel", name := "global", desc := "(I)J" } : Jvm.MethodName)) ∈ lw_all := lw_g (lw_at lw_m22 81 rfl) rfl
theorem q5423 : (Jvm.Cond.selects "LinkedTongueModel" ({ cls := "LinkedTongueModel", name := "global", desc := "(I)J" } : Jvm.MethodName) ({ cls := "LinkedTongueModel", name := "global", desc := "(I)J" } : Jvm.MethodName)) ∈ lw_all := lw_g (lw_at lw_m22 82 rfl) rfl
theorem q5424 : (Jvm.Cond.code ({ cls := "LinkedTongueModel", name := "global", desc := "(I)J" } : Jvm.MethodName) prog_49_method_202_code (3 : Nat) (Option.some Jvm.ClassFile.FieldType.long)) ∈ lw_all := lw_g (lw_at lw_m22 83 rfl) rfl
theorem q5426 : (Jvm.Cond.instanceMethod ({ cls := "LinkedTongueModel", name := "thing", desc := "(II)I" } : Jvm.MethodName)) ∈ lw_all := lw_g (lw_at lw_m22 85 rfl) rfl
theorem q5427 : (Jvm.Cond.selects "LinkedTongueModel" ({ cls := "LinkedTongueModel", name := "thing", desc := "(II)I" } : Jvm.MethodName) ({ cls := "LinkedTongueModel", name := "thing", desc := "(II)I" } : Jvm.MethodName)) ∈ lw_all := lw_g (lw_at lw_m22 86 rfl) rfl
theorem q5428 : (Jvm.Cond.code ({ cls := "LinkedTongueModel", name := "thing", desc := "(II)I" } : Jvm.MethodName) prog_49_method_203_code (4 : Nat) (Option.some Jvm.ClassFile.FieldType.int)) ∈ lw_all := lw_g (lw_at lw_m22 87 rfl) rfl
theorem q5430 : (Jvm.Cond.instanceMethod ({ cls := "LinkedTongueModel", name := "property", desc := "(III)J" } : Jvm.MethodName)) ∈ lw_all := lw_g (lw_at lw_m22 89 rfl) rfl
theorem q5431 : (Jvm.Cond.selects "LinkedTongueModel" ({ cls := "LinkedTongueModel", name := "property", desc := "(III)J" } : Jvm.MethodName) ({ cls := "LinkedTongueModel", name := "property", desc := "(III)J" } : Jvm.MethodName)) ∈ lw_all := lw_g (lw_at lw_m22 90 rfl) rfl
theorem q5432 : (Jvm.Cond.code ({ cls := "LinkedTongueModel", name := "property", desc := "(III)J" } : Jvm.MethodName) prog_49_method_204_code (6 : Nat) (Option.some Jvm.ClassFile.FieldType.long)) ∈ lw_all := lw_g (lw_at lw_m22 91 rfl) rfl
theorem q5433 : (Jvm.Cond.constantLong "LinkedTongueModel" (1406 : Nat) (2 : Int64)) ∈ lw_all := lw_g (lw_at lw_m22 92 rfl) rfl
theorem q5435 : (Jvm.Cond.instanceMethod ({ cls := "LinkedTongueModel", name := "shape", desc := "(II)I" } : Jvm.MethodName)) ∈ lw_all := lw_g (lw_at lw_m22 94 rfl) rfl
theorem q5436 : (Jvm.Cond.selects "LinkedTongueModel" ({ cls := "LinkedTongueModel", name := "shape", desc := "(II)I" } : Jvm.MethodName) ({ cls := "LinkedTongueModel", name := "shape", desc := "(II)I" } : Jvm.MethodName)) ∈ lw_all := lw_g (lw_at lw_m22 95 rfl) rfl
theorem q5437 : (Jvm.Cond.code ({ cls := "LinkedTongueModel", name := "shape", desc := "(II)I" } : Jvm.MethodName) prog_49_method_205_code (5 : Nat) (Option.some Jvm.ClassFile.FieldType.int)) ∈ lw_all := lw_g (lw_at lw_m22 96 rfl) rfl
theorem q5439 : (Jvm.Cond.instanceMethod ({ cls := "LinkedTongueModel", name := "output", desc := "(I)I" } : Jvm.MethodName)) ∈ lw_all := lw_g (lw_at lw_m22 98 rfl) rfl
theorem q5440 : (Jvm.Cond.selects "LinkedTongueModel" ({ cls := "LinkedTongueModel", name := "output", desc := "(I)I" } : Jvm.MethodName) ({ cls := "LinkedTongueModel", name := "output", desc := "(I)I" } : Jvm.MethodName)) ∈ lw_all := lw_g (lw_at lw_m22 99 rfl) rfl
theorem q5441 : (Jvm.Cond.code ({ cls := "LinkedTongueModel", name := "output", desc := "(I)I" } : Jvm.MethodName) prog_49_method_206_code (2 : Nat) (Option.some Jvm.ClassFile.FieldType.int)) ∈ lw_all := lw_g (lw_at lw_m22 100 rfl) rfl
theorem q5443 : (Jvm.Cond.instanceMethod ({ cls := "LinkedTongueModel", name := "trace", desc := "(I)I" } : Jvm.MethodName)) ∈ lw_all := lw_g (lw_at lw_m22 102 rfl) rfl
theorem q5444 : (Jvm.Cond.selects "LinkedTongueModel" ({ cls := "LinkedTongueModel", name := "trace", desc := "(I)I" } : Jvm.MethodName) ({ cls := "LinkedTongueModel", name := "trace", desc := "(I)I" } : Jvm.MethodName)) ∈ lw_all := lw_g (lw_at lw_m22 103 rfl) rfl
theorem q5445 : (Jvm.Cond.code ({ cls := "LinkedTongueModel", name := "trace", desc := "(I)I" } : Jvm.MethodName) prog_49_method_207_code (2 : Nat) (Option.some Jvm.ClassFile.FieldType.int)) ∈ lw_all := lw_g (lw_at lw_m22 104 rfl) rfl
theorem q5447 : (Jvm.Cond.instanceMethod ({ cls := "LinkedTongueModel", name := "count", desc := "(I)I" } : Jvm.MethodName)) ∈ lw_all := lw_g (lw_at lw_m22 106 rfl) rfl
theorem q5448 : (Jvm.Cond.selects "LinkedTongueModel" ({ cls := "LinkedTongueModel", name := "count", desc := "(I)I" } : Jvm.MethodName) ({ cls := "LinkedTongueModel", name := "count", desc := "(I)I" } : Jvm.MethodName)) ∈ lw_all := lw_g (lw_at lw_m22 107 rfl) rfl
theorem q5449 : (Jvm.Cond.code ({ cls := "LinkedTongueModel", name := "count", desc := "(I)I" } : Jvm.MethodName) prog_49_method_208_code (3 : Nat) (Option.some Jvm.ClassFile.FieldType.int)) ∈ lw_all := lw_g (lw_at lw_m22 108 rfl) rfl
theorem q5450 : (Jvm.Cond.constantLong "LinkedTongueModel" (1408 : Nat) (20 : Int64)) ∈ lw_all := lw_g (lw_at lw_m22 109 rfl) rfl
theorem q5451 : (Jvm.Cond.constantLong "LinkedTongueModel" (1410 : Nat) (23 : Int64)) ∈ lw_all := lw_g (lw_at lw_m22 110 rfl) rfl
theorem q5452 : (Jvm.Cond.constantLong "LinkedTongueModel" (1412 : Nat) (17 : Int64)) ∈ lw_all := lw_g (lw_at lw_m22 111 rfl) rfl
theorem q5526 : (Jvm.Cond.castable "LinkedTongueModel" "java/lang/Object") ∈ lw_tbl := lw_at lw_m22 185 rfl
theorem q329 : (Jvm.Cond.initialized "LinkedTongueModel$Halt") ∈ lw_all := lw_g (lw_at lw_m1 28 rfl) rfl
theorem q420 : (Jvm.Cond.selects "LinkedTongueModel$Halt" ({ cls := "java/lang/Throwable", name := "fillInStackTrace", desc := "()Ljava/lang/Throwable;" } : Jvm.MethodName) ({ cls := "java/lang/Throwable", name := "fillInStackTrace", desc := "()Ljava/lang/Throwable;" } : Jvm.MethodName)) ∈ lw_all := lw_g (lw_at lw_m1 119 rfl) rfl
theorem q1106 : (Jvm.Cond.selects "LinkedTongueModel$Halt" ({ cls := "java/lang/Object", name := "getClass", desc := "()Ljava/lang/Class;" } : Jvm.MethodName) ({ cls := "java/lang/Object", name := "getClass", desc := "()Ljava/lang/Class;" } : Jvm.MethodName)) ∈ lw_all := lw_g (lw_at lw_m4 85 rfl) rfl
theorem q3800 : (Jvm.Cond.instantiable "LinkedTongueModel$Halt" (8 : Nat)) ∈ lw_all := lw_g (lw_at lw_m15 139 rfl) rfl
theorem q3801 : (Jvm.Cond.castable "LinkedTongueModel$Halt" "LinkedTongueModel$Halt") ∈ lw_tbl := lw_at lw_m15 140 rfl
theorem q3802 : (Jvm.Cond.selects "LinkedTongueModel$Halt" ({ cls := "java/lang/Throwable", name := "fillInStackTrace", desc := "(I)Ljava/lang/Throwable;" } : Jvm.MethodName) ({ cls := "java/lang/Throwable", name := "fillInStackTrace", desc := "(I)Ljava/lang/Throwable;" } : Jvm.MethodName)) ∈ lw_all := lw_g (lw_at lw_m15 141 rfl) rfl
theorem q3803 : (Jvm.Cond.lays "LinkedTongueModel$Halt" "java/lang/Throwable" "cause" "Ljava/lang/Throwable;") ∈ lw_all := lw_g (lw_at lw_m15 142 rfl) rfl
theorem q3804 : (Jvm.Cond.lays "LinkedTongueModel$Halt" "java/lang/Throwable" "stackTrace" "[Ljava/lang/StackTraceElement;") ∈ lw_all := lw_g (lw_at lw_m15 143 rfl) rfl
theorem q3805 : (Jvm.Cond.lays "LinkedTongueModel$Halt" "java/lang/Throwable" "suppressedExceptions" "Ljava/util/List;") ∈ lw_all := lw_g (lw_at lw_m15 144 rfl) rfl
theorem q3806 : (Jvm.Cond.lays "LinkedTongueModel$Halt" "java/lang/Throwable" "detailMessage" "Ljava/lang/String;") ∈ lw_all := lw_g (lw_at lw_m15 145 rfl) rfl
theorem q3807 : (Jvm.Cond.lays "LinkedTongueModel$Halt" "java/lang/Throwable" "backtrace" "Ljava/lang/Object;") ∈ lw_all := lw_g (lw_at lw_m15 146 rfl) rfl
theorem q3809 : (Jvm.Cond.instanceMethod ({ cls := "LinkedTongueModel$Halt", name := "<init>", desc := "()V" } : Jvm.MethodName)) ∈ lw_all := lw_g (lw_at lw_m15 148 rfl) rfl
theorem q3810 : (Jvm.Cond.code ({ cls := "LinkedTongueModel$Halt", name := "<init>", desc := "()V" } : Jvm.MethodName) prog_50_method_1_code (1 : Nat) (Option.none : Option Jvm.ClassFile.FieldType)) ∈ lw_all := lw_g (lw_at lw_m15 149 rfl) rfl
theorem q3811 : (Jvm.Cond.methodLink "LinkedTongueModel$Halt" (1 : Nat) ({ cls := "java/lang/RuntimeException", name := "<init>", desc := "()V" } : Jvm.MethodName)) ∈ lw_all := lw_g (lw_at lw_m15 150 rfl) rfl
theorem q3812 : (Jvm.Cond.fieldLink "LinkedTongueModel$Halt" (7 : Nat) "LinkedTongueModel$Halt" "number" "I") ∈ lw_all := lw_g (lw_at lw_m15 151 rfl) rfl
theorem q3814 : (Jvm.Cond.fieldLink "LinkedTongueModel$Halt" (13 : Nat) "LinkedTongueModel$Halt" "place" "I") ∈ lw_all := lw_g (lw_at lw_m15 153 rfl) rfl
theorem q3816 : (Jvm.Cond.lays "LinkedTongueModel$Halt" "LinkedTongueModel$Halt" "number" "I") ∈ lw_all := lw_g (lw_at lw_m15 155 rfl) rfl
theorem q3817 : (Jvm.Cond.soleField "LinkedTongueModel$Halt" "number") ∈ lw_all := lw_g (lw_at lw_m15 156 rfl) rfl
theorem q3818 : (Jvm.Cond.lays "LinkedTongueModel$Halt" "LinkedTongueModel$Halt" "place" "I") ∈ lw_all := lw_g (lw_at lw_m15 157 rfl) rfl
theorem q3819 : (Jvm.Cond.soleField "LinkedTongueModel$Halt" "place") ∈ lw_all := lw_g (lw_at lw_m15 158 rfl) rfl
theorem q3820 : (Jvm.Cond.lays "LinkedTongueModel$Halt" "java/lang/Throwable" "depth" "I") ∈ lw_all := lw_g (lw_at lw_m15 159 rfl) rfl
theorem q3821 : (Jvm.Cond.superclass "LinkedTongueModel$Halt" "java/lang/RuntimeException") ∈ lw_all := lw_g (lw_at lw_m15 160 rfl) rfl
theorem q4562 : (Jvm.Cond.instanceMethod ({ cls := "LinkedTongueModel$Halt", name := "of", desc := "(II)LLinkedTongueModel$Halt;" } : Jvm.MethodName)) ∈ lw_all := lw_g (lw_at lw_m18 181 rfl) rfl
theorem q4563 : (Jvm.Cond.selects "LinkedTongueModel$Halt" ({ cls := "LinkedTongueModel$Halt", name := "of", desc := "(II)LLinkedTongueModel$Halt;" } : Jvm.MethodName) ({ cls := "LinkedTongueModel$Halt", name := "of", desc := "(II)LLinkedTongueModel$Halt;" } : Jvm.MethodName)) ∈ lw_all := lw_g (lw_at lw_m18 182 rfl) rfl
theorem q4564 : (Jvm.Cond.code ({ cls := "LinkedTongueModel$Halt", name := "of", desc := "(II)LLinkedTongueModel$Halt;" } : Jvm.MethodName) prog_50_method_2_code (3 : Nat) (Option.some (Jvm.ClassFile.FieldType.object "LinkedTongueModel$Halt"))) ∈ lw_all := lw_g (lw_at lw_m18 183 rfl) rfl
theorem q5527 : (Jvm.Cond.castable "LinkedTongueModel$Halt" "java/lang/Object") ∈ lw_tbl := lw_at lw_m22 186 rfl
theorem q330 : (Jvm.Cond.initialized "LinkedTongueModel$Host") ∈ lw_all := lw_g (lw_at lw_m1 29 rfl) rfl
theorem q1107 : (Jvm.Cond.selects "LinkedTongueModel$Host" ({ cls := "java/lang/Object", name := "getClass", desc := "()Ljava/lang/Class;" } : Jvm.MethodName) ({ cls := "java/lang/Object", name := "getClass", desc := "()Ljava/lang/Class;" } : Jvm.MethodName)) ∈ lw_all := lw_g (lw_at lw_m4 86 rfl) rfl
theorem q3824 : (Jvm.Cond.instantiable "LinkedTongueModel$Host" (21 : Nat)) ∈ lw_all := lw_g (lw_at lw_m15 163 rfl) rfl
theorem q3826 : (Jvm.Cond.instanceMethod ({ cls := "LinkedTongueModel$Host", name := "<init>", desc := "()V" } : Jvm.MethodName)) ∈ lw_all := lw_g (lw_at lw_m15 165 rfl) rfl
theorem q3827 : (Jvm.Cond.code ({ cls := "LinkedTongueModel$Host", name := "<init>", desc := "()V" } : Jvm.MethodName) prog_51_method_1_code (1 : Nat) (Option.none : Option Jvm.ClassFile.FieldType)) ∈ lw_all := lw_g (lw_at lw_m15 166 rfl) rfl
theorem q3828 : (Jvm.Cond.methodLink "LinkedTongueModel$Host" (3 : Nat) ({ cls := "java/lang/Object", name := "<init>", desc := "()V" } : Jvm.MethodName)) ∈ lw_all := lw_g (lw_at lw_m15 167 rfl) rfl
theorem q3829 : (Jvm.Cond.constant "LinkedTongueModel$Host" (9 : Nat) (65536 : Int32)) ∈ lw_all := lw_g (lw_at lw_m15 168 rfl) rfl
theorem q3830 : (Jvm.Cond.fieldLink "LinkedTongueModel$Host" (10 : Nat) "LinkedTongueModel$Host" "signs" "[B") ∈ lw_all := lw_g (lw_at lw_m15 169 rfl) rfl
theorem q3833 : (Jvm.Cond.fieldLink "LinkedTongueModel$Host" (16 : Nat) "LinkedTongueModel$Host" "isInterface" "[Z") ∈ lw_all := lw_g (lw_at lw_m15 172 rfl) rfl
theorem q3835 : (Jvm.Cond.fieldLink "LinkedTongueModel$Host" (20 : Nat) "LinkedTongueModel$Host" "above" "[I") ∈ lw_all := lw_g (lw_at lw_m15 174 rfl) rfl
theorem q3837 : (Jvm.Cond.fieldLink "LinkedTongueModel$Host" (24 : Nat) "LinkedTongueModel$Host" "supers" "[I") ∈ lw_all := lw_g (lw_at lw_m15 176 rfl) rfl
theorem q3839 : (Jvm.Cond.fieldLink "LinkedTongueModel$Host" (27 : Nat) "LinkedTongueModel$Host" "superOf" "[I") ∈ lw_all := lw_g (lw_at lw_m15 178 rfl) rfl
theorem q3841 : (Jvm.Cond.fieldLink "LinkedTongueModel$Host" (30 : Nat) "LinkedTongueModel$Host" "all" "[J") ∈ lw_all := lw_g (lw_at lw_m15 180 rfl) rfl
theorem q3843 : (Jvm.Cond.fieldLink "LinkedTongueModel$Host" (34 : Nat) "LinkedTongueModel$Host" "first" "[I") ∈ lw_all := lw_g (lw_at lw_m15 182 rfl) rfl
theorem q3845 : (Jvm.Cond.fieldLink "LinkedTongueModel$Host" (37 : Nat) "LinkedTongueModel$Host" "many" "[I") ∈ lw_all := lw_g (lw_at lw_m15 184 rfl) rfl
theorem q3847 : (Jvm.Cond.fieldLink "LinkedTongueModel$Host" (40 : Nat) "LinkedTongueModel$Host" "nameFrom" "[I") ∈ lw_all := lw_g (lw_at lw_m15 186 rfl) rfl
theorem q3849 : (Jvm.Cond.fieldLink "LinkedTongueModel$Host" (43 : Nat) "LinkedTongueModel$Host" "nameTo" "[I") ∈ lw_all := lw_g (lw_at lw_m15 188 rfl) rfl
theorem q3852 : (Jvm.Cond.fieldLink "LinkedTongueModel$Host" (46 : Nat) "LinkedTongueModel$Host" "itsClass" "[I") ∈ lw_all := lw_g (lw_at lw_m15 191 rfl) rfl
theorem q3854 : (Jvm.Cond.fieldLink "LinkedTongueModel$Host" (49 : Nat) "LinkedTongueModel$Host" "sort" "[I") ∈ lw_all := lw_g (lw_at lw_m15 193 rfl) rfl
theorem q3856 : (Jvm.Cond.fieldLink "LinkedTongueModel$Host" (52 : Nat) "LinkedTongueModel$Host" "isStatic" "[Z") ∈ lw_all := lw_g (lw_at lw_m15 195 rfl) rfl
theorem q3858 : (Jvm.Cond.fieldLink "LinkedTongueModel$Host" (55 : Nat) "LinkedTongueModel$Host" "type" "[I") ∈ lw_all := lw_g (lw_at lw_m15 197 rfl) rfl
theorem q3860 : (Jvm.Cond.fieldLink "LinkedTongueModel$Host" (58 : Nat) "LinkedTongueModel$Host" "parameters" "[I") ∈ lw_all := lw_g (lw_at lw_m15 199 rfl) rfl
theorem q3862 : (Jvm.Cond.fieldLink "LinkedTongueModel$Host" (61 : Nat) "LinkedTongueModel$Host" "variable" "[Z") ∈ lw_all := lw_g (lw_at lw_m15 201 rfl) rfl
theorem q3864 : (Jvm.Cond.fieldLink "LinkedTongueModel$Host" (64 : Nat) "LinkedTongueModel$Host" "parameter" "[I") ∈ lw_all := lw_g (lw_at lw_m15 203 rfl) rfl
theorem q3866 : (Jvm.Cond.fieldLink "LinkedTongueModel$Host" (67 : Nat) "LinkedTongueModel$Host" "memberFrom" "[I") ∈ lw_all := lw_g (lw_at lw_m15 205 rfl) rfl
theorem q3868 : (Jvm.Cond.fieldLink "LinkedTongueModel$Host" (70 : Nat) "LinkedTongueModel$Host" "memberTo" "[I") ∈ lw_all := lw_g (lw_at lw_m15 207 rfl) rfl
theorem q3870 : (Jvm.Cond.laysFinal "LinkedTongueModel$Host" "LinkedTongueModel$Host" "signs" "[B") ∈ lw_all := lw_g (lw_at lw_m15 209 rfl) rfl
theorem q3871 : (Jvm.Cond.soleField "LinkedTongueModel$Host" "signs") ∈ lw_all := lw_g (lw_at lw_m15 210 rfl) rfl
theorem q3872 : (Jvm.Cond.lays "LinkedTongueModel$Host" "LinkedTongueModel$Host" "classes" "I") ∈ lw_all := lw_g (lw_at lw_m15 211 rfl) rfl
theorem q3873 : (Jvm.Cond.soleField "LinkedTongueModel$Host" "classes") ∈ lw_all := lw_g (lw_at lw_m15 212 rfl) rfl
theorem q3874 : (Jvm.Cond.laysFinal "LinkedTongueModel$Host" "LinkedTongueModel$Host" "isInterface" "[Z") ∈ lw_all := lw_g (lw_at lw_m15 213 rfl) rfl
theorem q3875 : (Jvm.Cond.soleField "LinkedTongueModel$Host" "isInterface") ∈ lw_all := lw_g (lw_at lw_m15 214 rfl) rfl
theorem q3876 : (Jvm.Cond.laysFinal "LinkedTongueModel$Host" "LinkedTongueModel$Host" "above" "[I") ∈ lw_all := lw_g (lw_at lw_m15 215 rfl) rfl
theorem q3877 : (Jvm.Cond.soleField "LinkedTongueModel$Host" "above") ∈ lw_all := lw_g (lw_at lw_m15 216 rfl) rfl
theorem q3878 : (Jvm.Cond.laysFinal "LinkedTongueModel$Host" "LinkedTongueModel$Host" "supers" "[I") ∈ lw_all := lw_g (lw_at lw_m15 217 rfl) rfl
theorem q3879 : (Jvm.Cond.soleField "LinkedTongueModel$Host" "supers") ∈ lw_all := lw_g (lw_at lw_m15 218 rfl) rfl
theorem q3880 : (Jvm.Cond.laysFinal "LinkedTongueModel$Host" "LinkedTongueModel$Host" "superOf" "[I") ∈ lw_all := lw_g (lw_at lw_m15 219 rfl) rfl
theorem q3881 : (Jvm.Cond.soleField "LinkedTongueModel$Host" "superOf") ∈ lw_all := lw_g (lw_at lw_m15 220 rfl) rfl
theorem q3882 : (Jvm.Cond.laysFinal "LinkedTongueModel$Host" "LinkedTongueModel$Host" "all" "[J") ∈ lw_all := lw_g (lw_at lw_m15 221 rfl) rfl
theorem q3883 : (Jvm.Cond.soleField "LinkedTongueModel$Host" "all") ∈ lw_all := lw_g (lw_at lw_m15 222 rfl) rfl
theorem q3884 : (Jvm.Cond.laysFinal "LinkedTongueModel$Host" "LinkedTongueModel$Host" "first" "[I") ∈ lw_all := lw_g (lw_at lw_m15 223 rfl) rfl
theorem q3885 : (Jvm.Cond.soleField "LinkedTongueModel$Host" "first") ∈ lw_all := lw_g (lw_at lw_m15 224 rfl) rfl
theorem q3886 : (Jvm.Cond.laysFinal "LinkedTongueModel$Host" "LinkedTongueModel$Host" "many" "[I") ∈ lw_all := lw_g (lw_at lw_m15 225 rfl) rfl
theorem q3887 : (Jvm.Cond.soleField "LinkedTongueModel$Host" "many") ∈ lw_all := lw_g (lw_at lw_m15 226 rfl) rfl
theorem q3888 : (Jvm.Cond.laysFinal "LinkedTongueModel$Host" "LinkedTongueModel$Host" "nameFrom" "[I") ∈ lw_all := lw_g (lw_at lw_m15 227 rfl) rfl
theorem q3889 : (Jvm.Cond.soleField "LinkedTongueModel$Host" "nameFrom") ∈ lw_all := lw_g (lw_at lw_m15 228 rfl) rfl
theorem q3890 : (Jvm.Cond.laysFinal "LinkedTongueModel$Host" "LinkedTongueModel$Host" "nameTo" "[I") ∈ lw_all := lw_g (lw_at lw_m15 229 rfl) rfl
theorem q3891 : (Jvm.Cond.soleField "LinkedTongueModel$Host" "nameTo") ∈ lw_all := lw_g (lw_at lw_m15 230 rfl) rfl
theorem q3892 : (Jvm.Cond.lays "LinkedTongueModel$Host" "LinkedTongueModel$Host" "members" "I") ∈ lw_all := lw_g (lw_at lw_m15 231 rfl) rfl
theorem q3893 : (Jvm.Cond.soleField "LinkedTongueModel$Host" "members") ∈ lw_all := lw_g (lw_at lw_m15 232 rfl) rfl
theorem q3894 : (Jvm.Cond.laysFinal "LinkedTongueModel$Host" "LinkedTongueModel$Host" "itsClass" "[I") ∈ lw_all := lw_g (lw_at lw_m15 233 rfl) rfl
theorem q3895 : (Jvm.Cond.soleField "LinkedTongueModel$Host" "itsClass") ∈ lw_all := lw_g (lw_at lw_m15 234 rfl) rfl
theorem q3896 : (Jvm.Cond.laysFinal "LinkedTongueModel$Host" "LinkedTongueModel$Host" "sort" "[I") ∈ lw_all := lw_g (lw_at lw_m15 235 rfl) rfl
theorem q3897 : (Jvm.Cond.soleField "LinkedTongueModel$Host" "sort") ∈ lw_all := lw_g (lw_at lw_m15 236 rfl) rfl
theorem q3898 : (Jvm.Cond.laysFinal "LinkedTongueModel$Host" "LinkedTongueModel$Host" "isStatic" "[Z") ∈ lw_all := lw_g (lw_at lw_m15 237 rfl) rfl
theorem q3899 : (Jvm.Cond.soleField "LinkedTongueModel$Host" "isStatic") ∈ lw_all := lw_g (lw_at lw_m15 238 rfl) rfl
theorem q3900 : (Jvm.Cond.laysFinal "LinkedTongueModel$Host" "LinkedTongueModel$Host" "type" "[I") ∈ lw_all := lw_g (lw_at lw_m15 239 rfl) rfl
theorem q3901 : (Jvm.Cond.soleField "LinkedTongueModel$Host" "type") ∈ lw_all := lw_g (lw_at lw_m16 0 rfl) rfl
theorem q3902 : (Jvm.Cond.laysFinal "LinkedTongueModel$Host" "LinkedTongueModel$Host" "parameters" "[I") ∈ lw_all := lw_g (lw_at lw_m16 1 rfl) rfl
theorem q3903 : (Jvm.Cond.soleField "LinkedTongueModel$Host" "parameters") ∈ lw_all := lw_g (lw_at lw_m16 2 rfl) rfl
theorem q3904 : (Jvm.Cond.laysFinal "LinkedTongueModel$Host" "LinkedTongueModel$Host" "variable" "[Z") ∈ lw_all := lw_g (lw_at lw_m16 3 rfl) rfl
theorem q3905 : (Jvm.Cond.soleField "LinkedTongueModel$Host" "variable") ∈ lw_all := lw_g (lw_at lw_m16 4 rfl) rfl
theorem q3906 : (Jvm.Cond.laysFinal "LinkedTongueModel$Host" "LinkedTongueModel$Host" "parameter" "[I") ∈ lw_all := lw_g (lw_at lw_m16 5 rfl) rfl
theorem q3907 : (Jvm.Cond.soleField "LinkedTongueModel$Host" "parameter") ∈ lw_all := lw_g (lw_at lw_m16 6 rfl) rfl
theorem q3908 : (Jvm.Cond.laysFinal "LinkedTongueModel$Host" "LinkedTongueModel$Host" "memberFrom" "[I") ∈ lw_all := lw_g (lw_at lw_m16 7 rfl) rfl
theorem q3909 : (Jvm.Cond.soleField "LinkedTongueModel$Host" "memberFrom") ∈ lw_all := lw_g (lw_at lw_m16 8 rfl) rfl
theorem q3910 : (Jvm.Cond.laysFinal "LinkedTongueModel$Host" "LinkedTongueModel$Host" "memberTo" "[I") ∈ lw_all := lw_g (lw_at lw_m16 9 rfl) rfl
theorem q3911 : (Jvm.Cond.soleField "LinkedTongueModel$Host" "memberTo") ∈ lw_all := lw_g (lw_at lw_m16 10 rfl) rfl
theorem q3912 : (Jvm.Cond.superclass "LinkedTongueModel$Host" "java/lang/Object") ∈ lw_all := lw_g (lw_at lw_m16 11 rfl) rfl
theorem q4614 : (Jvm.Cond.instanceMethod ({ cls := "LinkedTongueModel$Host", name := "haveSameTypes", desc := "(II)Z" } : Jvm.MethodName)) ∈ lw_all := lw_g (lw_at lw_m18 233 rfl) rfl
theorem q4615 : (Jvm.Cond.selects "LinkedTongueModel$Host" ({ cls := "LinkedTongueModel$Host", name := "haveSameTypes", desc := "(II)Z" } : Jvm.MethodName) ({ cls := "LinkedTongueModel$Host", name := "haveSameTypes", desc := "(II)Z" } : Jvm.MethodName)) ∈ lw_all := lw_g (lw_at lw_m18 234 rfl) rfl
theorem q4616 : (Jvm.Cond.code ({ cls := "LinkedTongueModel$Host", name := "haveSameTypes", desc := "(II)Z" } : Jvm.MethodName) prog_51_method_3_code (5 : Nat) (Option.some Jvm.ClassFile.FieldType.boolean)) ∈ lw_all := lw_g (lw_at lw_m18 235 rfl) rfl
theorem q4634 : (Jvm.Cond.instanceMethod ({ cls := "LinkedTongueModel$Host", name := "isSub", desc := "(II)Z" } : Jvm.MethodName)) ∈ lw_all := lw_g (lw_at lw_m19 13 rfl) rfl
theorem q4635 : (Jvm.Cond.selects "LinkedTongueModel$Host" ({ cls := "LinkedTongueModel$Host", name := "isSub", desc := "(II)Z" } : Jvm.MethodName) ({ cls := "LinkedTongueModel$Host", name := "isSub", desc := "(II)Z" } : Jvm.MethodName)) ∈ lw_all := lw_g (lw_at lw_m19 14 rfl) rfl
theorem q4636 : (Jvm.Cond.code ({ cls := "LinkedTongueModel$Host", name := "isSub", desc := "(II)Z" } : Jvm.MethodName) prog_51_method_2_code (3 : Nat) (Option.some Jvm.ClassFile.FieldType.boolean)) ∈ lw_all := lw_g (lw_at lw_m19 15 rfl) rfl
theorem q5528 : (Jvm.Cond.castable "LinkedTongueModel$Host" "java/lang/Object") ∈ lw_tbl := lw_at lw_m22 187 rfl
theorem q331 : (Jvm.Cond.initialized "LinkedTongueModel$Ints") ∈ lw_all := lw_g (lw_at lw_m1 30 rfl) rfl
theorem q1108 : (Jvm.Cond.selects "LinkedTongueModel$Ints" ({ cls := "java/lang/Object", name := "getClass", desc := "()Ljava/lang/Class;" } : Jvm.MethodName) ({ cls := "java/lang/Object", name := "getClass", desc := "()Ljava/lang/Class;" } : Jvm.MethodName)) ∈ lw_all := lw_g (lw_at lw_m4 87 rfl) rfl
theorem q3918 : (Jvm.Cond.instantiable "LinkedTongueModel$Ints" (3 : Nat)) ∈ lw_all := lw_g (lw_at lw_m16 17 rfl) rfl
theorem q3920 : (Jvm.Cond.instanceMethod ({ cls := "LinkedTongueModel$Ints", name := "<init>", desc := "(I)V" } : Jvm.MethodName)) ∈ lw_all := lw_g (lw_at lw_m16 19 rfl) rfl
theorem q3921 : (Jvm.Cond.code ({ cls := "LinkedTongueModel$Ints", name := "<init>", desc := "(I)V" } : Jvm.MethodName) prog_52_method_1_code (2 : Nat) (Option.none : Option Jvm.ClassFile.FieldType)) ∈ lw_all := lw_g (lw_at lw_m16 20 rfl) rfl
theorem q3922 : (Jvm.Cond.methodLink "LinkedTongueModel$Ints" (1 : Nat) ({ cls := "java/lang/Object", name := "<init>", desc := "()V" } : Jvm.MethodName)) ∈ lw_all := lw_g (lw_at lw_m16 21 rfl) rfl
theorem q3923 : (Jvm.Cond.fieldLink "LinkedTongueModel$Ints" (13 : Nat) "LinkedTongueModel$Ints" "most" "I") ∈ lw_all := lw_g (lw_at lw_m16 22 rfl) rfl
theorem q3924 : (Jvm.Cond.fieldLink "LinkedTongueModel$Ints" (7 : Nat) "LinkedTongueModel$Ints" "a" "[I") ∈ lw_all := lw_g (lw_at lw_m16 23 rfl) rfl
theorem q3927 : (Jvm.Cond.fieldLink "LinkedTongueModel$Ints" (17 : Nat) "LinkedTongueModel$Ints" "size" "I") ∈ lw_all := lw_g (lw_at lw_m16 26 rfl) rfl
theorem q3929 : (Jvm.Cond.laysFinal "LinkedTongueModel$Ints" "LinkedTongueModel$Ints" "most" "I") ∈ lw_all := lw_g (lw_at lw_m16 28 rfl) rfl
theorem q3930 : (Jvm.Cond.soleField "LinkedTongueModel$Ints" "most") ∈ lw_all := lw_g (lw_at lw_m16 29 rfl) rfl
theorem q3931 : (Jvm.Cond.lays "LinkedTongueModel$Ints" "LinkedTongueModel$Ints" "a" "[I") ∈ lw_all := lw_g (lw_at lw_m16 30 rfl) rfl
theorem q3932 : (Jvm.Cond.soleField "LinkedTongueModel$Ints" "a") ∈ lw_all := lw_g (lw_at lw_m16 31 rfl) rfl
theorem q3933 : (Jvm.Cond.lays "LinkedTongueModel$Ints" "LinkedTongueModel$Ints" "size" "I") ∈ lw_all := lw_g (lw_at lw_m16 32 rfl) rfl
theorem q3934 : (Jvm.Cond.soleField "LinkedTongueModel$Ints" "size") ∈ lw_all := lw_g (lw_at lw_m16 33 rfl) rfl
theorem q3935 : (Jvm.Cond.superclass "LinkedTongueModel$Ints" "java/lang/Object") ∈ lw_all := lw_g (lw_at lw_m16 34 rfl) rfl
theorem q4782 : (Jvm.Cond.instanceMethod ({ cls := "LinkedTongueModel$Ints", name := "add", desc := "(I)V" } : Jvm.MethodName)) ∈ lw_all := lw_g (lw_at lw_m19 161 rfl) rfl
theorem q4783 : (Jvm.Cond.selects "LinkedTongueModel$Ints" ({ cls := "LinkedTongueModel$Ints", name := "add", desc := "(I)V" } : Jvm.MethodName) ({ cls := "LinkedTongueModel$Ints", name := "add", desc := "(I)V" } : Jvm.MethodName)) ∈ lw_all := lw_g (lw_at lw_m19 162 rfl) rfl
theorem q4784 : (Jvm.Cond.code ({ cls := "LinkedTongueModel$Ints", name := "add", desc := "(I)V" } : Jvm.MethodName) prog_52_method_3_code (4 : Nat) (Option.none : Option Jvm.ClassFile.FieldType)) ∈ lw_all := lw_g (lw_at lw_m19 163 rfl) rfl
theorem q4863 : (Jvm.Cond.instanceMethod ({ cls := "LinkedTongueModel$Ints", name := "set", desc := "(II)V" } : Jvm.MethodName)) ∈ lw_all := lw_g (lw_at lw_m20 2 rfl) rfl
theorem q4864 : (Jvm.Cond.selects "LinkedTongueModel$Ints" ({ cls := "LinkedTongueModel$Ints", name := "set", desc := "(II)V" } : Jvm.MethodName) ({ cls := "LinkedTongueModel$Ints", name := "set", desc := "(II)V" } : Jvm.MethodName)) ∈ lw_all := lw_g (lw_at lw_m20 3 rfl) rfl
theorem q4865 : (Jvm.Cond.code ({ cls := "LinkedTongueModel$Ints", name := "set", desc := "(II)V" } : Jvm.MethodName) prog_52_method_2_code (3 : Nat) (Option.none : Option Jvm.ClassFile.FieldType)) ∈ lw_all := lw_g (lw_at lw_m20 4 rfl) rfl
theorem q5529 : (Jvm.Cond.castable "LinkedTongueModel$Ints" "java/lang/Object") ∈ lw_tbl := lw_at lw_m22 188 rfl
theorem q335 : (Jvm.Cond.initialized "LinkedTongue$HostType") ∈ lw_all := lw_g (lw_at lw_m1 34 rfl) rfl
theorem q1077 : (Jvm.Cond.selects "LinkedTongue$HostType" ({ cls := "java/lang/Object", name := "getClass", desc := "()Ljava/lang/Class;" } : Jvm.MethodName) ({ cls := "java/lang/Object", name := "getClass", desc := "()Ljava/lang/Class;" } : Jvm.MethodName)) ∈ lw_all := lw_g (lw_at lw_m4 56 rfl) rfl
theorem q1489 : (Jvm.Cond.instantiable "LinkedTongue$HostType" (11 : Nat)) ∈ lw_all := lw_g (lw_at lw_m5 228 rfl) rfl
theorem q1491 : (Jvm.Cond.instanceMethod ({ cls := "LinkedTongue$HostType", name := "<init>", desc := "(IIZI)V" } : Jvm.MethodName)) ∈ lw_all := lw_g (lw_at lw_m5 230 rfl) rfl
theorem q1492 : (Jvm.Cond.code ({ cls := "LinkedTongue$HostType", name := "<init>", desc := "(IIZI)V" } : Jvm.MethodName) prog_18_method_1_code (5 : Nat) (Option.none : Option Jvm.ClassFile.FieldType)) ∈ lw_all := lw_g (lw_at lw_m5 231 rfl) rfl
theorem q1493 : (Jvm.Cond.methodLink "LinkedTongue$HostType" (3 : Nat) ({ cls := "java/lang/Object", name := "<init>", desc := "()V" } : Jvm.MethodName)) ∈ lw_all := lw_g (lw_at lw_m5 232 rfl) rfl
theorem q1494 : (Jvm.Cond.classLink "LinkedTongue$HostType" (9 : Nat) "java/util/ArrayList") ∈ lw_all := lw_g (lw_at lw_m5 233 rfl) rfl
theorem q1495 : (Jvm.Cond.methodLink "LinkedTongue$HostType" (11 : Nat) ({ cls := "java/util/ArrayList", name := "<init>", desc := "()V" } : Jvm.MethodName)) ∈ lw_all := lw_g (lw_at lw_m5 234 rfl) rfl
theorem q1496 : (Jvm.Cond.fieldLink "LinkedTongue$HostType" (25 : Nat) "LinkedTongue$HostType" "number" "I") ∈ lw_all := lw_g (lw_at lw_m5 235 rfl) rfl
theorem q1503 : (Jvm.Cond.fieldLink "LinkedTongue$HostType" (29 : Nat) "LinkedTongue$HostType" "name" "I") ∈ lw_all := lw_g (lw_at lw_m6 2 rfl) rfl
theorem q1506 : (Jvm.Cond.fieldLink "LinkedTongue$HostType" (36 : Nat) "LinkedTongue$HostType" "firstMember" "I") ∈ lw_all := lw_g (lw_at lw_m6 5 rfl) rfl
theorem q1508 : (Jvm.Cond.fieldLink "LinkedTongue$HostType" (32 : Nat) "LinkedTongue$HostType" "isInterface" "Z") ∈ lw_all := lw_g (lw_at lw_m6 7 rfl) rfl
theorem q1510 : (Jvm.Cond.fieldLink "LinkedTongue$HostType" (43 : Nat) "LinkedTongue$HostType" "above" "LLinkedTongue$HostType;") ∈ lw_all := lw_g (lw_at lw_m6 9 rfl) rfl
theorem q1513 : (Jvm.Cond.fieldLink "LinkedTongue$HostType" (12 : Nat) "LinkedTongue$HostType" "supers" "Ljava/util/ArrayList;") ∈ lw_all := lw_g (lw_at lw_m6 12 rfl) rfl
theorem q1515 : (Jvm.Cond.fieldLink "LinkedTongue$HostType" (18 : Nat) "LinkedTongue$HostType" "members" "Ljava/util/ArrayList;") ∈ lw_all := lw_g (lw_at lw_m6 14 rfl) rfl
theorem q1517 : (Jvm.Cond.fieldLink "LinkedTongue$HostType" (65 : Nat) "LinkedTongue$HostType" "layout" "[LLinkedTongue$Member;") ∈ lw_all := lw_g (lw_at lw_m6 16 rfl) rfl
theorem q1518 : (Jvm.Cond.fieldLink "LinkedTongue$HostType" (21 : Nat) "LinkedTongue$HostType" "over" "[Z") ∈ lw_all := lw_g (lw_at lw_m6 17 rfl) rfl
theorem q1519 : (Jvm.Cond.fieldLink "LinkedTongue$HostType" (78 : Nat) "LinkedTongue$HostType" "words" "[J") ∈ lw_all := lw_g (lw_at lw_m6 18 rfl) rfl
theorem q1521 : (Jvm.Cond.fieldLink "LinkedTongue$HostType" (82 : Nat) "LinkedTongue$HostType" "tags" "[B") ∈ lw_all := lw_g (lw_at lw_m6 20 rfl) rfl
theorem q1523 : (Jvm.Cond.laysFinal "LinkedTongue$HostType" "LinkedTongue$HostType" "number" "I") ∈ lw_all := lw_g (lw_at lw_m6 22 rfl) rfl
theorem q1524 : (Jvm.Cond.soleField "LinkedTongue$HostType" "number") ∈ lw_all := lw_g (lw_at lw_m6 23 rfl) rfl
theorem q1525 : (Jvm.Cond.laysFinal "LinkedTongue$HostType" "LinkedTongue$HostType" "name" "I") ∈ lw_all := lw_g (lw_at lw_m6 24 rfl) rfl
theorem q1526 : (Jvm.Cond.soleField "LinkedTongue$HostType" "name") ∈ lw_all := lw_g (lw_at lw_m6 25 rfl) rfl
theorem q1527 : (Jvm.Cond.laysFinal "LinkedTongue$HostType" "LinkedTongue$HostType" "firstMember" "I") ∈ lw_all := lw_g (lw_at lw_m6 26 rfl) rfl
theorem q1528 : (Jvm.Cond.soleField "LinkedTongue$HostType" "firstMember") ∈ lw_all := lw_g (lw_at lw_m6 27 rfl) rfl
