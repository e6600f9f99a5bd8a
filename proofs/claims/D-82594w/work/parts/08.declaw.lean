theorem d_Llaw_0 : decode b_Llaw 0 = .ok (.new 7, 3) := by decide +kernel
theorem d_Llaw_3 : decode b_Llaw 3 = .ok (.dup, 1) := by decide +kernel
theorem d_Llaw_4 : decode b_Llaw 4 = .ok (.invokespecial 9, 3) := by decide +kernel
theorem d_Llaw_7 : decode b_Llaw 7 = .ok (.astore_n 1, 1) := by decide +kernel
theorem d_Llaw_8 : decode b_Llaw 8 = .ok (.new 10, 3) := by decide +kernel
theorem d_Llaw_11 : decode b_Llaw 11 = .ok (.dup, 1) := by decide +kernel
theorem d_Llaw_12 : decode b_Llaw 12 = .ok (.invokespecial 12, 3) := by decide +kernel
theorem d_Llaw_15 : decode b_Llaw 15 = .ok (.astore_n 2, 1) := by decide +kernel
theorem d_Llaw_16 : decode b_Llaw 16 = .ok (.iconst 0, 1) := by decide +kernel
theorem d_Llaw_17 : decode b_Llaw 17 = .ok (.istore_n 3, 1) := by decide +kernel
theorem d_Llaw_18 : decode b_Llaw 18 = .ok (.iload_n 3, 1) := by decide +kernel
theorem d_Llaw_19 : decode b_Llaw 19 = .ok (.aload_n 0, 1) := by decide +kernel
theorem d_Llaw_20 : decode b_Llaw 20 = .ok (.arraylength, 1) := by decide +kernel
theorem d_Llaw_21 : decode b_Llaw 21 = .ok (.iconst 5, 1) := by decide +kernel
theorem d_Llaw_22 : decode b_Llaw 22 = .ok (.isub, 1) := by decide +kernel
theorem d_Llaw_23 : decode b_Llaw 23 = .ok (.if_icmp .gt 548, 3) := by decide +kernel
theorem d_Llaw_26 : decode b_Llaw 26 = .ok (.aload_n 0, 1) := by decide +kernel
theorem d_Llaw_27 : decode b_Llaw 27 = .ok (.iload_n 3, 1) := by decide +kernel
theorem d_Llaw_28 : decode b_Llaw 28 = .ok (.iaload, 1) := by decide +kernel
theorem d_Llaw_29 : decode b_Llaw 29 = .ok (.bipush 15, 2) := by decide +kernel
theorem d_Llaw_31 : decode b_Llaw 31 = .ok (.iand, 1) := by decide +kernel
theorem d_Llaw_32 : decode b_Llaw 32 = .ok (.tableswitch 533 0 12 #[68, 91, 144, 203, 236, 269, 302, 325, 368, 411, 444, 477, 510], 68) := by decide +kernel
theorem d_Llaw_100 : decode b_Llaw 100 = .ok (.aload_n 1, 1) := by decide +kernel
theorem d_Llaw_101 : decode b_Llaw 101 = .ok (.aload_n 0, 1) := by decide +kernel
theorem d_Llaw_102 : decode b_Llaw 102 = .ok (.iload_n 3, 1) := by decide +kernel
theorem d_Llaw_103 : decode b_Llaw 103 = .ok (.iconst 1, 1) := by decide +kernel
theorem d_Llaw_104 : decode b_Llaw 104 = .ok (.iadd, 1) := by decide +kernel
theorem d_Llaw_105 : decode b_Llaw 105 = .ok (.iaload, 1) := by decide +kernel
theorem d_Llaw_106 : decode b_Llaw 106 = .ok (.invokevirtual 13, 3) := by decide +kernel
theorem d_Llaw_109 : decode b_Llaw 109 = .ok (.aload_n 2, 1) := by decide +kernel
theorem d_Llaw_110 : decode b_Llaw 110 = .ok (.aload_n 0, 1) := by decide +kernel
theorem d_Llaw_111 : decode b_Llaw 111 = .ok (.iload_n 3, 1) := by decide +kernel
theorem d_Llaw_112 : decode b_Llaw 112 = .ok (.iconst 1, 1) := by decide +kernel
theorem d_Llaw_113 : decode b_Llaw 113 = .ok (.iadd, 1) := by decide +kernel
theorem d_Llaw_114 : decode b_Llaw 114 = .ok (.iaload, 1) := by decide +kernel
theorem d_Llaw_115 : decode b_Llaw 115 = .ok (.invokevirtual 17, 3) := by decide +kernel
theorem d_Llaw_118 : decode b_Llaw 118 = .ok (.if_icmp .eq 447, 3) := by decide +kernel
theorem d_Llaw_121 : decode b_Llaw 121 = .ok (.iconst 0, 1) := by decide +kernel
theorem d_Llaw_122 : decode b_Llaw 122 = .ok (.ireturn, 1) := by decide +kernel
theorem d_Llaw_123 : decode b_Llaw 123 = .ok (.aload_n 1, 1) := by decide +kernel
theorem d_Llaw_124 : decode b_Llaw 124 = .ok (.aload_n 0, 1) := by decide +kernel
theorem d_Llaw_125 : decode b_Llaw 125 = .ok (.iload_n 3, 1) := by decide +kernel
theorem d_Llaw_126 : decode b_Llaw 126 = .ok (.iconst 1, 1) := by decide +kernel
theorem d_Llaw_127 : decode b_Llaw 127 = .ok (.iadd, 1) := by decide +kernel
theorem d_Llaw_128 : decode b_Llaw 128 = .ok (.iaload, 1) := by decide +kernel
theorem d_Llaw_129 : decode b_Llaw 129 = .ok (.aload_n 0, 1) := by decide +kernel
theorem d_Llaw_130 : decode b_Llaw 130 = .ok (.iload_n 3, 1) := by decide +kernel
theorem d_Llaw_131 : decode b_Llaw 131 = .ok (.iconst 2, 1) := by decide +kernel
theorem d_Llaw_132 : decode b_Llaw 132 = .ok (.iadd, 1) := by decide +kernel
theorem d_Llaw_133 : decode b_Llaw 133 = .ok (.iaload, 1) := by decide +kernel
theorem d_Llaw_134 : decode b_Llaw 134 = .ok (.aload_n 0, 1) := by decide +kernel
theorem d_Llaw_135 : decode b_Llaw 135 = .ok (.iload_n 3, 1) := by decide +kernel
theorem d_Llaw_136 : decode b_Llaw 136 = .ok (.iconst 3, 1) := by decide +kernel
theorem d_Llaw_137 : decode b_Llaw 137 = .ok (.iadd, 1) := by decide +kernel
theorem d_Llaw_138 : decode b_Llaw 138 = .ok (.iaload, 1) := by decide +kernel
theorem d_Llaw_139 : decode b_Llaw 139 = .ok (.aload_n 0, 1) := by decide +kernel
theorem d_Llaw_140 : decode b_Llaw 140 = .ok (.iload_n 3, 1) := by decide +kernel
theorem d_Llaw_141 : decode b_Llaw 141 = .ok (.iconst 4, 1) := by decide +kernel
theorem d_Llaw_142 : decode b_Llaw 142 = .ok (.iadd, 1) := by decide +kernel
theorem d_Llaw_143 : decode b_Llaw 143 = .ok (.iaload, 1) := by decide +kernel
theorem d_Llaw_144 : decode b_Llaw 144 = .ok (.invokevirtual 18, 3) := by decide +kernel
theorem d_Llaw_147 : decode b_Llaw 147 = .ok (.aload_n 2, 1) := by decide +kernel
theorem d_Llaw_148 : decode b_Llaw 148 = .ok (.aload_n 0, 1) := by decide +kernel
theorem d_Llaw_149 : decode b_Llaw 149 = .ok (.iload_n 3, 1) := by decide +kernel
theorem d_Llaw_150 : decode b_Llaw 150 = .ok (.iconst 1, 1) := by decide +kernel
theorem d_Llaw_151 : decode b_Llaw 151 = .ok (.iadd, 1) := by decide +kernel
theorem d_Llaw_152 : decode b_Llaw 152 = .ok (.iaload, 1) := by decide +kernel
theorem d_Llaw_153 : decode b_Llaw 153 = .ok (.aload_n 0, 1) := by decide +kernel
theorem d_Llaw_154 : decode b_Llaw 154 = .ok (.iload_n 3, 1) := by decide +kernel
theorem d_Llaw_155 : decode b_Llaw 155 = .ok (.iconst 2, 1) := by decide +kernel
theorem d_Llaw_156 : decode b_Llaw 156 = .ok (.iadd, 1) := by decide +kernel
theorem d_Llaw_157 : decode b_Llaw 157 = .ok (.iaload, 1) := by decide +kernel
theorem d_Llaw_158 : decode b_Llaw 158 = .ok (.aload_n 0, 1) := by decide +kernel
theorem d_Llaw_159 : decode b_Llaw 159 = .ok (.iload_n 3, 1) := by decide +kernel
theorem d_Llaw_160 : decode b_Llaw 160 = .ok (.iconst 3, 1) := by decide +kernel
theorem d_Llaw_161 : decode b_Llaw 161 = .ok (.iadd, 1) := by decide +kernel
theorem d_Llaw_162 : decode b_Llaw 162 = .ok (.iaload, 1) := by decide +kernel
theorem d_Llaw_163 : decode b_Llaw 163 = .ok (.aload_n 0, 1) := by decide +kernel
theorem d_Llaw_164 : decode b_Llaw 164 = .ok (.iload_n 3, 1) := by decide +kernel
theorem d_Llaw_165 : decode b_Llaw 165 = .ok (.iconst 4, 1) := by decide +kernel
theorem d_Llaw_166 : decode b_Llaw 166 = .ok (.iadd, 1) := by decide +kernel
theorem d_Llaw_167 : decode b_Llaw 167 = .ok (.iaload, 1) := by decide +kernel
theorem d_Llaw_168 : decode b_Llaw 168 = .ok (.invokevirtual 22, 3) := by decide +kernel
theorem d_Llaw_171 : decode b_Llaw 171 = .ok (.if_icmp .eq 394, 3) := by decide +kernel
theorem d_Llaw_174 : decode b_Llaw 174 = .ok (.iconst 0, 1) := by decide +kernel
theorem d_Llaw_175 : decode b_Llaw 175 = .ok (.ireturn, 1) := by decide +kernel
theorem d_Llaw_176 : decode b_Llaw 176 = .ok (.aload_n 1, 1) := by decide +kernel
theorem d_Llaw_177 : decode b_Llaw 177 = .ok (.aload_n 0, 1) := by decide +kernel
theorem d_Llaw_178 : decode b_Llaw 178 = .ok (.iload_n 3, 1) := by decide +kernel
theorem d_Llaw_179 : decode b_Llaw 179 = .ok (.iconst 1, 1) := by decide +kernel
theorem d_Llaw_180 : decode b_Llaw 180 = .ok (.iadd, 1) := by decide +kernel
theorem d_Llaw_181 : decode b_Llaw 181 = .ok (.iaload, 1) := by decide +kernel
theorem d_Llaw_182 : decode b_Llaw 182 = .ok (.aload_n 0, 1) := by decide +kernel
theorem d_Llaw_183 : decode b_Llaw 183 = .ok (.iload_n 3, 1) := by decide +kernel
theorem d_Llaw_184 : decode b_Llaw 184 = .ok (.iconst 2, 1) := by decide +kernel
theorem d_Llaw_185 : decode b_Llaw 185 = .ok (.iadd, 1) := by decide +kernel
theorem d_Llaw_186 : decode b_Llaw 186 = .ok (.iaload, 1) := by decide +kernel
theorem d_Llaw_187 : decode b_Llaw 187 = .ok (.aload_n 0, 1) := by decide +kernel
theorem d_Llaw_188 : decode b_Llaw 188 = .ok (.iload_n 3, 1) := by decide +kernel
theorem d_Llaw_189 : decode b_Llaw 189 = .ok (.iconst 3, 1) := by decide +kernel
theorem d_Llaw_190 : decode b_Llaw 190 = .ok (.iadd, 1) := by decide +kernel
theorem d_Llaw_191 : decode b_Llaw 191 = .ok (.iaload, 1) := by decide +kernel
theorem d_Llaw_192 : decode b_Llaw 192 = .ok (.ifCond .eq 7, 3) := by decide +kernel
theorem d_Llaw_195 : decode b_Llaw 195 = .ok (.iconst 1, 1) := by decide +kernel
theorem d_Llaw_196 : decode b_Llaw 196 = .ok (.goto 4, 3) := by decide +kernel
theorem d_Llaw_199 : decode b_Llaw 199 = .ok (.iconst 0, 1) := by decide +kernel
theorem d_Llaw_200 : decode b_Llaw 200 = .ok (.invokevirtual 23, 3) := by decide +kernel
theorem d_Llaw_203 : decode b_Llaw 203 = .ok (.aload_n 2, 1) := by decide +kernel
theorem d_Llaw_204 : decode b_Llaw 204 = .ok (.aload_n 0, 1) := by decide +kernel
theorem d_Llaw_205 : decode b_Llaw 205 = .ok (.iload_n 3, 1) := by decide +kernel
theorem d_Llaw_206 : decode b_Llaw 206 = .ok (.iconst 1, 1) := by decide +kernel
theorem d_Llaw_207 : decode b_Llaw 207 = .ok (.iadd, 1) := by decide +kernel
theorem d_Llaw_208 : decode b_Llaw 208 = .ok (.iaload, 1) := by decide +kernel
theorem d_Llaw_209 : decode b_Llaw 209 = .ok (.aload_n 0, 1) := by decide +kernel
theorem d_Llaw_210 : decode b_Llaw 210 = .ok (.iload_n 3, 1) := by decide +kernel
theorem d_Llaw_211 : decode b_Llaw 211 = .ok (.iconst 2, 1) := by decide +kernel
theorem d_Llaw_212 : decode b_Llaw 212 = .ok (.iadd, 1) := by decide +kernel
theorem d_Llaw_213 : decode b_Llaw 213 = .ok (.iaload, 1) := by decide +kernel
theorem d_Llaw_214 : decode b_Llaw 214 = .ok (.aload_n 0, 1) := by decide +kernel
theorem d_Llaw_215 : decode b_Llaw 215 = .ok (.iload_n 3, 1) := by decide +kernel
theorem d_Llaw_216 : decode b_Llaw 216 = .ok (.iconst 3, 1) := by decide +kernel
theorem d_Llaw_217 : decode b_Llaw 217 = .ok (.iadd, 1) := by decide +kernel
theorem d_Llaw_218 : decode b_Llaw 218 = .ok (.iaload, 1) := by decide +kernel
theorem d_Llaw_219 : decode b_Llaw 219 = .ok (.ifCond .eq 7, 3) := by decide +kernel
theorem d_Llaw_222 : decode b_Llaw 222 = .ok (.iconst 1, 1) := by decide +kernel
theorem d_Llaw_223 : decode b_Llaw 223 = .ok (.goto 4, 3) := by decide +kernel
theorem d_Llaw_226 : decode b_Llaw 226 = .ok (.iconst 0, 1) := by decide +kernel
theorem d_Llaw_227 : decode b_Llaw 227 = .ok (.invokevirtual 27, 3) := by decide +kernel
theorem d_Llaw_230 : decode b_Llaw 230 = .ok (.if_icmp .eq 335, 3) := by decide +kernel
theorem d_Llaw_233 : decode b_Llaw 233 = .ok (.iconst 0, 1) := by decide +kernel
theorem d_Llaw_234 : decode b_Llaw 234 = .ok (.ireturn, 1) := by decide +kernel
theorem d_Llaw_235 : decode b_Llaw 235 = .ok (.aload_n 1, 1) := by decide +kernel
theorem d_Llaw_236 : decode b_Llaw 236 = .ok (.aload_n 0, 1) := by decide +kernel
theorem d_Llaw_237 : decode b_Llaw 237 = .ok (.iload_n 3, 1) := by decide +kernel
theorem d_Llaw_238 : decode b_Llaw 238 = .ok (.iconst 1, 1) := by decide +kernel
theorem d_Llaw_239 : decode b_Llaw 239 = .ok (.iadd, 1) := by decide +kernel
theorem d_Llaw_240 : decode b_Llaw 240 = .ok (.iaload, 1) := by decide +kernel
theorem d_Llaw_241 : decode b_Llaw 241 = .ok (.aload_n 0, 1) := by decide +kernel
theorem d_Llaw_242 : decode b_Llaw 242 = .ok (.iload_n 3, 1) := by decide +kernel
theorem d_Llaw_243 : decode b_Llaw 243 = .ok (.iconst 2, 1) := by decide +kernel
theorem d_Llaw_244 : decode b_Llaw 244 = .ok (.iadd, 1) := by decide +kernel
theorem d_Llaw_245 : decode b_Llaw 245 = .ok (.iaload, 1) := by decide +kernel
theorem d_Llaw_246 : decode b_Llaw 246 = .ok (.invokevirtual 28, 3) := by decide +kernel
theorem d_Llaw_249 : decode b_Llaw 249 = .ok (.aload_n 2, 1) := by decide +kernel
theorem d_Llaw_250 : decode b_Llaw 250 = .ok (.aload_n 0, 1) := by decide +kernel
theorem d_Llaw_251 : decode b_Llaw 251 = .ok (.iload_n 3, 1) := by decide +kernel
theorem d_Llaw_252 : decode b_Llaw 252 = .ok (.iconst 1, 1) := by decide +kernel
theorem d_Llaw_253 : decode b_Llaw 253 = .ok (.iadd, 1) := by decide +kernel
theorem d_Llaw_254 : decode b_Llaw 254 = .ok (.iaload, 1) := by decide +kernel
theorem d_Llaw_255 : decode b_Llaw 255 = .ok (.aload_n 0, 1) := by decide +kernel
theorem d_Llaw_256 : decode b_Llaw 256 = .ok (.iload_n 3, 1) := by decide +kernel
theorem d_Llaw_257 : decode b_Llaw 257 = .ok (.iconst 2, 1) := by decide +kernel
theorem d_Llaw_258 : decode b_Llaw 258 = .ok (.iadd, 1) := by decide +kernel
theorem d_Llaw_259 : decode b_Llaw 259 = .ok (.iaload, 1) := by decide +kernel
theorem d_Llaw_260 : decode b_Llaw 260 = .ok (.invokevirtual 32, 3) := by decide +kernel
theorem d_Llaw_263 : decode b_Llaw 263 = .ok (.if_icmp .eq 302, 3) := by decide +kernel
theorem d_Llaw_266 : decode b_Llaw 266 = .ok (.iconst 0, 1) := by decide +kernel
theorem d_Llaw_267 : decode b_Llaw 267 = .ok (.ireturn, 1) := by decide +kernel
theorem d_Llaw_268 : decode b_Llaw 268 = .ok (.aload_n 1, 1) := by decide +kernel
theorem d_Llaw_269 : decode b_Llaw 269 = .ok (.aload_n 0, 1) := by decide +kernel
theorem d_Llaw_270 : decode b_Llaw 270 = .ok (.iload_n 3, 1) := by decide +kernel
theorem d_Llaw_271 : decode b_Llaw 271 = .ok (.iconst 1, 1) := by decide +kernel
theorem d_Llaw_272 : decode b_Llaw 272 = .ok (.iadd, 1) := by decide +kernel
theorem d_Llaw_273 : decode b_Llaw 273 = .ok (.iaload, 1) := by decide +kernel
theorem d_Llaw_274 : decode b_Llaw 274 = .ok (.aload_n 0, 1) := by decide +kernel
theorem d_Llaw_275 : decode b_Llaw 275 = .ok (.iload_n 3, 1) := by decide +kernel
theorem d_Llaw_276 : decode b_Llaw 276 = .ok (.iconst 2, 1) := by decide +kernel
theorem d_Llaw_277 : decode b_Llaw 277 = .ok (.iadd, 1) := by decide +kernel
theorem d_Llaw_278 : decode b_Llaw 278 = .ok (.iaload, 1) := by decide +kernel
theorem d_Llaw_279 : decode b_Llaw 279 = .ok (.invokevirtual 33, 3) := by decide +kernel
theorem d_Llaw_282 : decode b_Llaw 282 = .ok (.aload_n 2, 1) := by decide +kernel
theorem d_Llaw_283 : decode b_Llaw 283 = .ok (.aload_n 0, 1) := by decide +kernel
theorem d_Llaw_284 : decode b_Llaw 284 = .ok (.iload_n 3, 1) := by decide +kernel
theorem d_Llaw_285 : decode b_Llaw 285 = .ok (.iconst 1, 1) := by decide +kernel
theorem d_Llaw_286 : decode b_Llaw 286 = .ok (.iadd, 1) := by decide +kernel
theorem d_Llaw_287 : decode b_Llaw 287 = .ok (.iaload, 1) := by decide +kernel
theorem d_Llaw_288 : decode b_Llaw 288 = .ok (.aload_n 0, 1) := by decide +kernel
theorem d_Llaw_289 : decode b_Llaw 289 = .ok (.iload_n 3, 1) := by decide +kernel
theorem d_Llaw_290 : decode b_Llaw 290 = .ok (.iconst 2, 1) := by decide +kernel
theorem d_Llaw_291 : decode b_Llaw 291 = .ok (.iadd, 1) := by decide +kernel
theorem d_Llaw_292 : decode b_Llaw 292 = .ok (.iaload, 1) := by decide +kernel
theorem d_Llaw_293 : decode b_Llaw 293 = .ok (.invokevirtual 36, 3) := by decide +kernel
theorem d_Llaw_296 : decode b_Llaw 296 = .ok (.if_icmp .eq 269, 3) := by decide +kernel
theorem d_Llaw_299 : decode b_Llaw 299 = .ok (.iconst 0, 1) := by decide +kernel
theorem d_Llaw_300 : decode b_Llaw 300 = .ok (.ireturn, 1) := by decide +kernel
theorem d_Llaw_301 : decode b_Llaw 301 = .ok (.aload_n 1, 1) := by decide +kernel
theorem d_Llaw_302 : decode b_Llaw 302 = .ok (.aload_n 0, 1) := by decide +kernel
theorem d_Llaw_303 : decode b_Llaw 303 = .ok (.iload_n 3, 1) := by decide +kernel
theorem d_Llaw_304 : decode b_Llaw 304 = .ok (.iconst 1, 1) := by decide +kernel
theorem d_Llaw_305 : decode b_Llaw 305 = .ok (.iadd, 1) := by decide +kernel
theorem d_Llaw_306 : decode b_Llaw 306 = .ok (.iaload, 1) := by decide +kernel
theorem d_Llaw_307 : decode b_Llaw 307 = .ok (.aload_n 0, 1) := by decide +kernel
theorem d_Llaw_308 : decode b_Llaw 308 = .ok (.iload_n 3, 1) := by decide +kernel
theorem d_Llaw_309 : decode b_Llaw 309 = .ok (.iconst 2, 1) := by decide +kernel
theorem d_Llaw_310 : decode b_Llaw 310 = .ok (.iadd, 1) := by decide +kernel
theorem d_Llaw_311 : decode b_Llaw 311 = .ok (.iaload, 1) := by decide +kernel
theorem d_Llaw_312 : decode b_Llaw 312 = .ok (.invokevirtual 37, 3) := by decide +kernel
theorem d_Llaw_315 : decode b_Llaw 315 = .ok (.aload_n 2, 1) := by decide +kernel
theorem d_Llaw_316 : decode b_Llaw 316 = .ok (.aload_n 0, 1) := by decide +kernel
theorem d_Llaw_317 : decode b_Llaw 317 = .ok (.iload_n 3, 1) := by decide +kernel
theorem d_Llaw_318 : decode b_Llaw 318 = .ok (.iconst 1, 1) := by decide +kernel
theorem d_Llaw_319 : decode b_Llaw 319 = .ok (.iadd, 1) := by decide +kernel
theorem d_Llaw_320 : decode b_Llaw 320 = .ok (.iaload, 1) := by decide +kernel
theorem d_Llaw_321 : decode b_Llaw 321 = .ok (.aload_n 0, 1) := by decide +kernel
theorem d_Llaw_322 : decode b_Llaw 322 = .ok (.iload_n 3, 1) := by decide +kernel
theorem d_Llaw_323 : decode b_Llaw 323 = .ok (.iconst 2, 1) := by decide +kernel
theorem d_Llaw_324 : decode b_Llaw 324 = .ok (.iadd, 1) := by decide +kernel
theorem d_Llaw_325 : decode b_Llaw 325 = .ok (.iaload, 1) := by decide +kernel
theorem d_Llaw_326 : decode b_Llaw 326 = .ok (.invokevirtual 40, 3) := by decide +kernel
theorem d_Llaw_329 : decode b_Llaw 329 = .ok (.if_icmp .eq 236, 3) := by decide +kernel
theorem d_Llaw_332 : decode b_Llaw 332 = .ok (.iconst 0, 1) := by decide +kernel
theorem d_Llaw_333 : decode b_Llaw 333 = .ok (.ireturn, 1) := by decide +kernel
theorem d_Llaw_334 : decode b_Llaw 334 = .ok (.aload_n 1, 1) := by decide +kernel
theorem d_Llaw_335 : decode b_Llaw 335 = .ok (.aload_n 0, 1) := by decide +kernel
theorem d_Llaw_336 : decode b_Llaw 336 = .ok (.iload_n 3, 1) := by decide +kernel
theorem d_Llaw_337 : decode b_Llaw 337 = .ok (.iconst 1, 1) := by decide +kernel
theorem d_Llaw_338 : decode b_Llaw 338 = .ok (.iadd, 1) := by decide +kernel
theorem d_Llaw_339 : decode b_Llaw 339 = .ok (.iaload, 1) := by decide +kernel
theorem d_Llaw_340 : decode b_Llaw 340 = .ok (.invokevirtual 41, 3) := by decide +kernel
theorem d_Llaw_343 : decode b_Llaw 343 = .ok (.aload_n 2, 1) := by decide +kernel
theorem d_Llaw_344 : decode b_Llaw 344 = .ok (.aload_n 0, 1) := by decide +kernel
theorem d_Llaw_345 : decode b_Llaw 345 = .ok (.iload_n 3, 1) := by decide +kernel
theorem d_Llaw_346 : decode b_Llaw 346 = .ok (.iconst 1, 1) := by decide +kernel
theorem d_Llaw_347 : decode b_Llaw 347 = .ok (.iadd, 1) := by decide +kernel
theorem d_Llaw_348 : decode b_Llaw 348 = .ok (.iaload, 1) := by decide +kernel
theorem d_Llaw_349 : decode b_Llaw 349 = .ok (.invokevirtual 44, 3) := by decide +kernel
theorem d_Llaw_352 : decode b_Llaw 352 = .ok (.if_icmp .eq 213, 3) := by decide +kernel
theorem d_Llaw_355 : decode b_Llaw 355 = .ok (.iconst 0, 1) := by decide +kernel
theorem d_Llaw_356 : decode b_Llaw 356 = .ok (.ireturn, 1) := by decide +kernel
theorem d_Llaw_357 : decode b_Llaw 357 = .ok (.aload_n 1, 1) := by decide +kernel
theorem d_Llaw_358 : decode b_Llaw 358 = .ok (.aload_n 0, 1) := by decide +kernel
theorem d_Llaw_359 : decode b_Llaw 359 = .ok (.iload_n 3, 1) := by decide +kernel
theorem d_Llaw_360 : decode b_Llaw 360 = .ok (.iconst 1, 1) := by decide +kernel
theorem d_Llaw_361 : decode b_Llaw 361 = .ok (.iadd, 1) := by decide +kernel
theorem d_Llaw_362 : decode b_Llaw 362 = .ok (.iaload, 1) := by decide +kernel
theorem d_Llaw_363 : decode b_Llaw 363 = .ok (.aload_n 0, 1) := by decide +kernel
theorem d_Llaw_364 : decode b_Llaw 364 = .ok (.iload_n 3, 1) := by decide +kernel
theorem d_Llaw_365 : decode b_Llaw 365 = .ok (.iconst 2, 1) := by decide +kernel
theorem d_Llaw_366 : decode b_Llaw 366 = .ok (.iadd, 1) := by decide +kernel
theorem d_Llaw_367 : decode b_Llaw 367 = .ok (.iaload, 1) := by decide +kernel
theorem d_Llaw_368 : decode b_Llaw 368 = .ok (.aload_n 0, 1) := by decide +kernel
theorem d_Llaw_369 : decode b_Llaw 369 = .ok (.iload_n 3, 1) := by decide +kernel
theorem d_Llaw_370 : decode b_Llaw 370 = .ok (.iconst 3, 1) := by decide +kernel
theorem d_Llaw_371 : decode b_Llaw 371 = .ok (.iadd, 1) := by decide +kernel
theorem d_Llaw_372 : decode b_Llaw 372 = .ok (.iaload, 1) := by decide +kernel
theorem d_Llaw_373 : decode b_Llaw 373 = .ok (.invokevirtual 45, 3) := by decide +kernel
theorem d_Llaw_376 : decode b_Llaw 376 = .ok (.aload_n 2, 1) := by decide +kernel
theorem d_Llaw_377 : decode b_Llaw 377 = .ok (.aload_n 0, 1) := by decide +kernel
theorem d_Llaw_378 : decode b_Llaw 378 = .ok (.iload_n 3, 1) := by decide +kernel
theorem d_Llaw_379 : decode b_Llaw 379 = .ok (.iconst 1, 1) := by decide +kernel
theorem d_Llaw_380 : decode b_Llaw 380 = .ok (.iadd, 1) := by decide +kernel
theorem d_Llaw_381 : decode b_Llaw 381 = .ok (.iaload, 1) := by decide +kernel
theorem d_Llaw_382 : decode b_Llaw 382 = .ok (.aload_n 0, 1) := by decide +kernel
theorem d_Llaw_383 : decode b_Llaw 383 = .ok (.iload_n 3, 1) := by decide +kernel
theorem d_Llaw_384 : decode b_Llaw 384 = .ok (.iconst 2, 1) := by decide +kernel
theorem d_Llaw_385 : decode b_Llaw 385 = .ok (.iadd, 1) := by decide +kernel
theorem d_Llaw_386 : decode b_Llaw 386 = .ok (.iaload, 1) := by decide +kernel
theorem d_Llaw_387 : decode b_Llaw 387 = .ok (.aload_n 0, 1) := by decide +kernel
theorem d_Llaw_388 : decode b_Llaw 388 = .ok (.iload_n 3, 1) := by decide +kernel
theorem d_Llaw_389 : decode b_Llaw 389 = .ok (.iconst 3, 1) := by decide +kernel
theorem d_Llaw_390 : decode b_Llaw 390 = .ok (.iadd, 1) := by decide +kernel
theorem d_Llaw_391 : decode b_Llaw 391 = .ok (.iaload, 1) := by decide +kernel
theorem d_Llaw_392 : decode b_Llaw 392 = .ok (.invokevirtual 49, 3) := by decide +kernel
theorem d_Llaw_395 : decode b_Llaw 395 = .ok (.if_icmp .eq 170, 3) := by decide +kernel
theorem d_Llaw_398 : decode b_Llaw 398 = .ok (.iconst 0, 1) := by decide +kernel
theorem d_Llaw_399 : decode b_Llaw 399 = .ok (.ireturn, 1) := by decide +kernel
theorem d_Llaw_400 : decode b_Llaw 400 = .ok (.aload_n 1, 1) := by decide +kernel
theorem d_Llaw_401 : decode b_Llaw 401 = .ok (.aload_n 0, 1) := by decide +kernel
theorem d_Llaw_402 : decode b_Llaw 402 = .ok (.iload_n 3, 1) := by decide +kernel
theorem d_Llaw_403 : decode b_Llaw 403 = .ok (.iconst 1, 1) := by decide +kernel
theorem d_Llaw_404 : decode b_Llaw 404 = .ok (.iadd, 1) := by decide +kernel
theorem d_Llaw_405 : decode b_Llaw 405 = .ok (.iaload, 1) := by decide +kernel
theorem d_Llaw_406 : decode b_Llaw 406 = .ok (.aload_n 0, 1) := by decide +kernel
theorem d_Llaw_407 : decode b_Llaw 407 = .ok (.iload_n 3, 1) := by decide +kernel
theorem d_Llaw_408 : decode b_Llaw 408 = .ok (.iconst 2, 1) := by decide +kernel
theorem d_Llaw_409 : decode b_Llaw 409 = .ok (.iadd, 1) := by decide +kernel
theorem d_Llaw_410 : decode b_Llaw 410 = .ok (.iaload, 1) := by decide +kernel
theorem d_Llaw_411 : decode b_Llaw 411 = .ok (.aload_n 0, 1) := by decide +kernel
theorem d_Llaw_412 : decode b_Llaw 412 = .ok (.iload_n 3, 1) := by decide +kernel
theorem d_Llaw_413 : decode b_Llaw 413 = .ok (.iconst 3, 1) := by decide +kernel
theorem d_Llaw_414 : decode b_Llaw 414 = .ok (.iadd, 1) := by decide +kernel
theorem d_Llaw_415 : decode b_Llaw 415 = .ok (.iaload, 1) := by decide +kernel
theorem d_Llaw_416 : decode b_Llaw 416 = .ok (.invokevirtual 50, 3) := by decide +kernel
theorem d_Llaw_419 : decode b_Llaw 419 = .ok (.aload_n 2, 1) := by decide +kernel
theorem d_Llaw_420 : decode b_Llaw 420 = .ok (.aload_n 0, 1) := by decide +kernel
theorem d_Llaw_421 : decode b_Llaw 421 = .ok (.iload_n 3, 1) := by decide +kernel
theorem d_Llaw_422 : decode b_Llaw 422 = .ok (.iconst 1, 1) := by decide +kernel
theorem d_Llaw_423 : decode b_Llaw 423 = .ok (.iadd, 1) := by decide +kernel
theorem d_Llaw_424 : decode b_Llaw 424 = .ok (.iaload, 1) := by decide +kernel
theorem d_Llaw_425 : decode b_Llaw 425 = .ok (.aload_n 0, 1) := by decide +kernel
theorem d_Llaw_426 : decode b_Llaw 426 = .ok (.iload_n 3, 1) := by decide +kernel
theorem d_Llaw_427 : decode b_Llaw 427 = .ok (.iconst 2, 1) := by decide +kernel
theorem d_Llaw_428 : decode b_Llaw 428 = .ok (.iadd, 1) := by decide +kernel
theorem d_Llaw_429 : decode b_Llaw 429 = .ok (.iaload, 1) := by decide +kernel
theorem d_Llaw_430 : decode b_Llaw 430 = .ok (.aload_n 0, 1) := by decide +kernel
theorem d_Llaw_431 : decode b_Llaw 431 = .ok (.iload_n 3, 1) := by decide +kernel
theorem d_Llaw_432 : decode b_Llaw 432 = .ok (.iconst 3, 1) := by decide +kernel
theorem d_Llaw_433 : decode b_Llaw 433 = .ok (.iadd, 1) := by decide +kernel
theorem d_Llaw_434 : decode b_Llaw 434 = .ok (.iaload, 1) := by decide +kernel
theorem d_Llaw_435 : decode b_Llaw 435 = .ok (.invokevirtual 53, 3) := by decide +kernel
theorem d_Llaw_438 : decode b_Llaw 438 = .ok (.if_icmp .eq 127, 3) := by decide +kernel
theorem d_Llaw_441 : decode b_Llaw 441 = .ok (.iconst 0, 1) := by decide +kernel
theorem d_Llaw_442 : decode b_Llaw 442 = .ok (.ireturn, 1) := by decide +kernel
theorem d_Llaw_443 : decode b_Llaw 443 = .ok (.aload_n 1, 1) := by decide +kernel
theorem d_Llaw_444 : decode b_Llaw 444 = .ok (.aload_n 0, 1) := by decide +kernel
theorem d_Llaw_445 : decode b_Llaw 445 = .ok (.iload_n 3, 1) := by decide +kernel
theorem d_Llaw_446 : decode b_Llaw 446 = .ok (.iconst 1, 1) := by decide +kernel
theorem d_Llaw_447 : decode b_Llaw 447 = .ok (.iadd, 1) := by decide +kernel
theorem d_Llaw_448 : decode b_Llaw 448 = .ok (.iaload, 1) := by decide +kernel
theorem d_Llaw_449 : decode b_Llaw 449 = .ok (.aload_n 0, 1) := by decide +kernel
theorem d_Llaw_450 : decode b_Llaw 450 = .ok (.iload_n 3, 1) := by decide +kernel
theorem d_Llaw_451 : decode b_Llaw 451 = .ok (.iconst 2, 1) := by decide +kernel
theorem d_Llaw_452 : decode b_Llaw 452 = .ok (.iadd, 1) := by decide +kernel
theorem d_Llaw_453 : decode b_Llaw 453 = .ok (.iaload, 1) := by decide +kernel
theorem d_Llaw_454 : decode b_Llaw 454 = .ok (.invokevirtual 54, 3) := by decide +kernel
theorem d_Llaw_457 : decode b_Llaw 457 = .ok (.aload_n 2, 1) := by decide +kernel
theorem d_Llaw_458 : decode b_Llaw 458 = .ok (.aload_n 0, 1) := by decide +kernel
theorem d_Llaw_459 : decode b_Llaw 459 = .ok (.iload_n 3, 1) := by decide +kernel
theorem d_Llaw_460 : decode b_Llaw 460 = .ok (.iconst 1, 1) := by decide +kernel
theorem d_Llaw_461 : decode b_Llaw 461 = .ok (.iadd, 1) := by decide +kernel
theorem d_Llaw_462 : decode b_Llaw 462 = .ok (.iaload, 1) := by decide +kernel
theorem d_Llaw_463 : decode b_Llaw 463 = .ok (.aload_n 0, 1) := by decide +kernel
theorem d_Llaw_464 : decode b_Llaw 464 = .ok (.iload_n 3, 1) := by decide +kernel
theorem d_Llaw_465 : decode b_Llaw 465 = .ok (.iconst 2, 1) := by decide +kernel
theorem d_Llaw_466 : decode b_Llaw 466 = .ok (.iadd, 1) := by decide +kernel
theorem d_Llaw_467 : decode b_Llaw 467 = .ok (.iaload, 1) := by decide +kernel
theorem d_Llaw_468 : decode b_Llaw 468 = .ok (.invokevirtual 57, 3) := by decide +kernel
theorem d_Llaw_471 : decode b_Llaw 471 = .ok (.if_icmp .eq 94, 3) := by decide +kernel
theorem d_Llaw_474 : decode b_Llaw 474 = .ok (.iconst 0, 1) := by decide +kernel
theorem d_Llaw_475 : decode b_Llaw 475 = .ok (.ireturn, 1) := by decide +kernel
theorem d_Llaw_476 : decode b_Llaw 476 = .ok (.aload_n 1, 1) := by decide +kernel
theorem d_Llaw_477 : decode b_Llaw 477 = .ok (.aload_n 0, 1) := by decide +kernel
theorem d_Llaw_478 : decode b_Llaw 478 = .ok (.iload_n 3, 1) := by decide +kernel
theorem d_Llaw_479 : decode b_Llaw 479 = .ok (.iconst 1, 1) := by decide +kernel
theorem d_Llaw_480 : decode b_Llaw 480 = .ok (.iadd, 1) := by decide +kernel
theorem d_Llaw_481 : decode b_Llaw 481 = .ok (.iaload, 1) := by decide +kernel
theorem d_Llaw_482 : decode b_Llaw 482 = .ok (.aload_n 0, 1) := by decide +kernel
theorem d_Llaw_483 : decode b_Llaw 483 = .ok (.iload_n 3, 1) := by decide +kernel
theorem d_Llaw_484 : decode b_Llaw 484 = .ok (.iconst 2, 1) := by decide +kernel
theorem d_Llaw_485 : decode b_Llaw 485 = .ok (.iadd, 1) := by decide +kernel
theorem d_Llaw_486 : decode b_Llaw 486 = .ok (.iaload, 1) := by decide +kernel
theorem d_Llaw_487 : decode b_Llaw 487 = .ok (.invokevirtual 58, 3) := by decide +kernel
theorem d_Llaw_490 : decode b_Llaw 490 = .ok (.aload_n 2, 1) := by decide +kernel
theorem d_Llaw_491 : decode b_Llaw 491 = .ok (.aload_n 0, 1) := by decide +kernel
theorem d_Llaw_492 : decode b_Llaw 492 = .ok (.iload_n 3, 1) := by decide +kernel
theorem d_Llaw_493 : decode b_Llaw 493 = .ok (.iconst 1, 1) := by decide +kernel
theorem d_Llaw_494 : decode b_Llaw 494 = .ok (.iadd, 1) := by decide +kernel
theorem d_Llaw_495 : decode b_Llaw 495 = .ok (.iaload, 1) := by decide +kernel
theorem d_Llaw_496 : decode b_Llaw 496 = .ok (.aload_n 0, 1) := by decide +kernel
theorem d_Llaw_497 : decode b_Llaw 497 = .ok (.iload_n 3, 1) := by decide +kernel
theorem d_Llaw_498 : decode b_Llaw 498 = .ok (.iconst 2, 1) := by decide +kernel
theorem d_Llaw_499 : decode b_Llaw 499 = .ok (.iadd, 1) := by decide +kernel
theorem d_Llaw_500 : decode b_Llaw 500 = .ok (.iaload, 1) := by decide +kernel
theorem d_Llaw_501 : decode b_Llaw 501 = .ok (.invokevirtual 61, 3) := by decide +kernel
theorem d_Llaw_504 : decode b_Llaw 504 = .ok (.if_icmp .eq 61, 3) := by decide +kernel
theorem d_Llaw_507 : decode b_Llaw 507 = .ok (.iconst 0, 1) := by decide +kernel
theorem d_Llaw_508 : decode b_Llaw 508 = .ok (.ireturn, 1) := by decide +kernel
theorem d_Llaw_509 : decode b_Llaw 509 = .ok (.aload_n 1, 1) := by decide +kernel
theorem d_Llaw_510 : decode b_Llaw 510 = .ok (.aload_n 0, 1) := by decide +kernel
theorem d_Llaw_511 : decode b_Llaw 511 = .ok (.iload_n 3, 1) := by decide +kernel
theorem d_Llaw_512 : decode b_Llaw 512 = .ok (.iconst 1, 1) := by decide +kernel
theorem d_Llaw_513 : decode b_Llaw 513 = .ok (.iadd, 1) := by decide +kernel
theorem d_Llaw_514 : decode b_Llaw 514 = .ok (.iaload, 1) := by decide +kernel
theorem d_Llaw_515 : decode b_Llaw 515 = .ok (.aload_n 0, 1) := by decide +kernel
theorem d_Llaw_516 : decode b_Llaw 516 = .ok (.iload_n 3, 1) := by decide +kernel
theorem d_Llaw_517 : decode b_Llaw 517 = .ok (.iconst 2, 1) := by decide +kernel
theorem d_Llaw_518 : decode b_Llaw 518 = .ok (.iadd, 1) := by decide +kernel
theorem d_Llaw_519 : decode b_Llaw 519 = .ok (.iaload, 1) := by decide +kernel
theorem d_Llaw_520 : decode b_Llaw 520 = .ok (.invokevirtual 62, 3) := by decide +kernel
theorem d_Llaw_523 : decode b_Llaw 523 = .ok (.aload_n 2, 1) := by decide +kernel
theorem d_Llaw_524 : decode b_Llaw 524 = .ok (.aload_n 0, 1) := by decide +kernel
theorem d_Llaw_525 : decode b_Llaw 525 = .ok (.iload_n 3, 1) := by decide +kernel
theorem d_Llaw_526 : decode b_Llaw 526 = .ok (.iconst 1, 1) := by decide +kernel
theorem d_Llaw_527 : decode b_Llaw 527 = .ok (.iadd, 1) := by decide +kernel
theorem d_Llaw_528 : decode b_Llaw 528 = .ok (.iaload, 1) := by decide +kernel
theorem d_Llaw_529 : decode b_Llaw 529 = .ok (.aload_n 0, 1) := by decide +kernel
theorem d_Llaw_530 : decode b_Llaw 530 = .ok (.iload_n 3, 1) := by decide +kernel
theorem d_Llaw_531 : decode b_Llaw 531 = .ok (.iconst 2, 1) := by decide +kernel
theorem d_Llaw_532 : decode b_Llaw 532 = .ok (.iadd, 1) := by decide +kernel
theorem d_Llaw_533 : decode b_Llaw 533 = .ok (.iaload, 1) := by decide +kernel
theorem d_Llaw_534 : decode b_Llaw 534 = .ok (.invokevirtual 66, 3) := by decide +kernel
theorem d_Llaw_537 : decode b_Llaw 537 = .ok (.if_icmp .eq 28, 3) := by decide +kernel
theorem d_Llaw_540 : decode b_Llaw 540 = .ok (.iconst 0, 1) := by decide +kernel
theorem d_Llaw_541 : decode b_Llaw 541 = .ok (.ireturn, 1) := by decide +kernel
theorem d_Llaw_542 : decode b_Llaw 542 = .ok (.aload_n 1, 1) := by decide +kernel
theorem d_Llaw_543 : decode b_Llaw 543 = .ok (.aload_n 0, 1) := by decide +kernel
theorem d_Llaw_544 : decode b_Llaw 544 = .ok (.iload_n 3, 1) := by decide +kernel
theorem d_Llaw_545 : decode b_Llaw 545 = .ok (.iconst 1, 1) := by decide +kernel
theorem d_Llaw_546 : decode b_Llaw 546 = .ok (.iadd, 1) := by decide +kernel
theorem d_Llaw_547 : decode b_Llaw 547 = .ok (.iaload, 1) := by decide +kernel
theorem d_Llaw_548 : decode b_Llaw 548 = .ok (.invokevirtual 67, 3) := by decide +kernel
theorem d_Llaw_551 : decode b_Llaw 551 = .ok (.aload_n 2, 1) := by decide +kernel
theorem d_Llaw_552 : decode b_Llaw 552 = .ok (.aload_n 0, 1) := by decide +kernel
theorem d_Llaw_553 : decode b_Llaw 553 = .ok (.iload_n 3, 1) := by decide +kernel
theorem d_Llaw_554 : decode b_Llaw 554 = .ok (.iconst 1, 1) := by decide +kernel
theorem d_Llaw_555 : decode b_Llaw 555 = .ok (.iadd, 1) := by decide +kernel
theorem d_Llaw_556 : decode b_Llaw 556 = .ok (.iaload, 1) := by decide +kernel
theorem d_Llaw_557 : decode b_Llaw 557 = .ok (.invokevirtual 70, 3) := by decide +kernel
theorem d_Llaw_560 : decode b_Llaw 560 = .ok (.if_icmp .eq 5, 3) := by decide +kernel
theorem d_Llaw_563 : decode b_Llaw 563 = .ok (.iconst 0, 1) := by decide +kernel
theorem d_Llaw_564 : decode b_Llaw 564 = .ok (.ireturn, 1) := by decide +kernel
theorem d_Llaw_565 : decode b_Llaw 565 = .ok (.iinc 3 5, 3) := by decide +kernel
theorem d_Llaw_568 : decode b_Llaw 568 = .ok (.goto (-550), 3) := by decide +kernel
theorem d_Llaw_571 : decode b_Llaw 571 = .ok (.iconst 1, 1) := by decide +kernel
theorem d_Llaw_572 : decode b_Llaw 572 = .ok (.ireturn, 1) := by decide +kernel
